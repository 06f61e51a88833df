/-! Anglewheel: by tools/gen24.py -/
abbrev R_X1_digitsOf : Room := { frames := 2, cells := 0, slots := 0, locals := 44 }
noncomputable def f_X1_digitsOf (x0 : UInt64) : Option (Int64) :=
  Option.bind (f_J10_doubleToLongBits x0) fun o1 =>
  some o1
theorem hd_X1_digitsOf : Hd yX1_digitsOf 1 := by unfold Hd; decide +kernel
set_option maxHeartbeats 4000000 in
set_option maxRecDepth 100000 in
theorem m_X1_digitsOf {l : Launch} {D : DD}   (x0 : UInt64) (r : Int64) (h : f_X1_digitsOf x0 = some r) : MP l D yX1_digitsOf cX1_digitsOf 2 (some .long) 2 44 [.double x0] NoPre (some (.long r)) := by
  refine MP.start (by decide +kernel) (Nat.le_of_ble_eq_true rfl) ?_
  intro p e s m below meth c ls hC hS hp hl
  obtain ⟨hx, hb, hr, hlk, hml, hown, hts, hnm⟩ := id hC
  have hl : lv_has ls 2 [(0, .double x0)] := hl
  unfold f_X1_digitsOf at h
  have hS0 := hS
  obtain ⟨A, eA⟩ : ∃ A : Array Value, A = [.double x0].toArray := ⟨_, rfl⟩
  rw [← eA] at hC hts ⊢
  obtain ⟨Q, eQ⟩ : ∃ Q : State → Prop, Q = MQ below (PQ (some (.long r))) A s 0 0 (fun _ => False) := ⟨_, rfl⟩
  show W p l e R_X1_digitsOf s m A below meth c s.heap [] 0 0 _ _
  rw [← eQ]
  refine lv_dload_n hx hb dX1_digitsOf_0 rfl (lv_at hl 0 rfl) ?_
  obtain ⟨o1, eo1, h⟩ := bind_step h
  refine r_cp (r_runS (rest := []) (As := [.double x0]) hC 1 (m_J10_doubleToLongBits   x0 o1 eo1) q366 q367 q51 q368 hd_J10_doubleToLongBits rfl ⟨Nat.le_of_ble_eq_true rfl, Nat.le_of_ble_eq_true rfl⟩ hS trivial hl.1 rfl (Nat.le_of_ble_eq_true rfl) dX1_digitsOf_1 ⟨Nat.le_of_ble_eq_true rfl, Nat.le_of_ble_eq_true rfl⟩) ?_
  obtain rfl := Option.some.inj h
  rw [eQ]
  exact p_lret hx hb hr hlk dX1_digitsOf_4 rfl

abbrev R_X1_sizeOf : Room := { frames := 3, cells := 0, slots := 0, locals := 65 }
noncomputable def f_X1_sizeOf (x0 : UInt64) : Option (UInt64) :=
  Option.bind (f_X1_digitsOf x0) fun o1 =>
  ltl ((o1 &&& 9223372036854775807 : Int64)) fun v2 =>
  ask (!vn_snl2d v2) <|
  ltd ((v2 : Int64).toUInt64) fun v4 =>
  some v4
theorem hd_X1_sizeOf : Hd yX1_sizeOf 1 := by unfold Hd; decide +kernel
set_option maxHeartbeats 4000000 in
set_option maxRecDepth 100000 in
theorem m_X1_sizeOf {l : Launch} {D : DD}   (x0 : UInt64) (r : UInt64) (h : f_X1_sizeOf x0 = some r) : MP l D yX1_sizeOf cX1_sizeOf 2 (some .double) 3 65 [.double x0] NoPre (some (.double r)) := by
  refine MP.start (by decide +kernel) (Nat.le_of_ble_eq_true rfl) ?_
  intro p e s m below meth c ls hC hS hp hl
  obtain ⟨hx, hb, hr, hlk, hml, hown, hts, hnm⟩ := id hC
  have hl : lv_has ls 2 [(0, .double x0)] := hl
  unfold f_X1_sizeOf at h
  have hS0 := hS
  obtain ⟨A, eA⟩ : ∃ A : Array Value, A = [.double x0].toArray := ⟨_, rfl⟩
  rw [← eA] at hC hts ⊢
  obtain ⟨Q, eQ⟩ : ∃ Q : State → Prop, Q = MQ below (PQ (some (.double r))) A s 0 0 (fun _ => False) := ⟨_, rfl⟩
  show W p l e R_X1_sizeOf s m A below meth c s.heap [] 0 0 _ _
  rw [← eQ]
  refine lv_dload_n hx hb dX1_sizeOf_0 rfl (lv_at hl 0 rfl) ?_
  obtain ⟨o1, eo1, h⟩ := bind_step h
  refine r_cp (r_runS (rest := []) (As := [.double x0]) hC 1 (m_X1_digitsOf   x0 o1 eo1) q363 q364 q46 q365 hd_X1_digitsOf rfl ⟨Nat.le_of_ble_eq_true rfl, Nat.le_of_ble_eq_true rfl⟩ hS trivial hl.1 rfl (Nat.le_of_ble_eq_true rfl) dX1_sizeOf_1 ⟨Nat.le_of_ble_eq_true rfl, Nat.le_of_ble_eq_true rfl⟩) ?_
  refine lv_ldc2 hx hb (v := 9223372036854775807) hown (hts _ q374) dX1_sizeOf_4 ?_
  obtain ⟨v2, ev2, h⟩ := ltl_step h
  refine r_land hx hb ev2 dX1_sizeOf_7 ?_
  obtain ⟨b3, h⟩ := ask_step h
  refine r_l2d hC q378 q219 q218 q51 (by simpa using b3) hl.1 ⟨Nat.le_of_ble_eq_true rfl, Nat.le_of_ble_eq_true rfl⟩ dX1_sizeOf_8 ?_
  obtain ⟨v4, ev4, h⟩ := ltd_step h
  refine r_nmD ev4 ?_
  obtain rfl := Option.some.inj h
  rw [eQ]
  exact p_dret hx hb hr hlk dX1_sizeOf_11 rfl

abbrev R_X1_fractionOf : Room := { frames := 3, cells := 0, slots := 0, locals := 65 }
noncomputable def f_X1_fractionOf (x0 : UInt64) : Option (Int64) :=
  Option.bind (f_X1_digitsOf x0) fun o1 =>
  ltl ((o1 &&& 4503599627370495 : Int64)) fun v2 =>
  some v2
theorem hd_X1_fractionOf : Hd yX1_fractionOf 1 := by unfold Hd; decide +kernel
set_option maxHeartbeats 4000000 in
set_option maxRecDepth 100000 in
theorem m_X1_fractionOf {l : Launch} {D : DD}   (x0 : UInt64) (r : Int64) (h : f_X1_fractionOf x0 = some r) : MP l D yX1_fractionOf cX1_fractionOf 2 (some .long) 3 65 [.double x0] NoPre (some (.long r)) := by
  refine MP.start (by decide +kernel) (Nat.le_of_ble_eq_true rfl) ?_
  intro p e s m below meth c ls hC hS hp hl
  obtain ⟨hx, hb, hr, hlk, hml, hown, hts, hnm⟩ := id hC
  have hl : lv_has ls 2 [(0, .double x0)] := hl
  unfold f_X1_fractionOf at h
  have hS0 := hS
  obtain ⟨A, eA⟩ : ∃ A : Array Value, A = [.double x0].toArray := ⟨_, rfl⟩
  rw [← eA] at hC hts ⊢
  obtain ⟨Q, eQ⟩ : ∃ Q : State → Prop, Q = MQ below (PQ (some (.long r))) A s 0 0 (fun _ => False) := ⟨_, rfl⟩
  show W p l e R_X1_fractionOf s m A below meth c s.heap [] 0 0 _ _
  rw [← eQ]
  refine lv_dload_n hx hb dX1_fractionOf_0 rfl (lv_at hl 0 rfl) ?_
  obtain ⟨o1, eo1, h⟩ := bind_step h
  refine r_cp (r_runS (rest := []) (As := [.double x0]) hC 1 (m_X1_digitsOf   x0 o1 eo1) q363 q364 q46 q365 hd_X1_digitsOf rfl ⟨Nat.le_of_ble_eq_true rfl, Nat.le_of_ble_eq_true rfl⟩ hS trivial hl.1 rfl (Nat.le_of_ble_eq_true rfl) dX1_fractionOf_1 ⟨Nat.le_of_ble_eq_true rfl, Nat.le_of_ble_eq_true rfl⟩) ?_
  refine lv_ldc2 hx hb (v := 4503599627370495) hown (hts _ q384) dX1_fractionOf_4 ?_
  obtain ⟨v2, ev2, h⟩ := ltl_step h
  refine r_land hx hb ev2 dX1_fractionOf_7 ?_
  obtain rfl := Option.some.inj h
  rw [eQ]
  exact p_lret hx hb hr hlk dX1_fractionOf_8 rfl

abbrev R_X1_bit : Room := { frames := 0, cells := 0, slots := 0, locals := 0 }
noncomputable def f_X1_bit (x0 : Bool) : Option (Int32) :=
  (if x0 = true then
    some 1
  else
    some 0
  )
theorem hd_X1_bit : Hd yX1_bit 1 := by unfold Hd; decide +kernel
set_option maxHeartbeats 4000000 in
set_option maxRecDepth 100000 in
theorem m_X1_bit {l : Launch} {D : DD}   (x0 : Bool) (r : Int32) (h : f_X1_bit x0 = some r) : MP l D yX1_bit cX1_bit 1 (some .int) 0 0 [.int (bI x0)] NoPre (some (.int r)) := by
  refine MP.start (by decide +kernel) (Nat.le_of_ble_eq_true rfl) ?_
  intro p e s m below meth c ls hC hS hp hl
  obtain ⟨hx, hb, hr, hlk, hml, hown, hts, hnm⟩ := id hC
  have hl : lv_has ls 1 [(0, .int (bI x0))] := hl
  unfold f_X1_bit at h
  have hS0 := hS
  obtain ⟨A, eA⟩ : ∃ A : Array Value, A = [.int (bI x0)].toArray := ⟨_, rfl⟩
  rw [← eA] at hC hts ⊢
  obtain ⟨Q, eQ⟩ : ∃ Q : State → Prop, Q = MQ below (PQ (some (.int r))) A s 0 0 (fun _ => False) := ⟨_, rfl⟩
  show W p l e R_X1_bit s m A below meth c s.heap [] 0 0 _ _
  rw [← eQ]
  refine lv_iload_n hx hb dX1_bit_0 rfl (lv_at hl 0 rfl) ?_
  refine r_ifz_eq (tgt := 8) hx hb dX1_bit_1 (by decide) (fun c1 => ?_) (fun c1 => ?_)
  · have h := it_neg h (by rw [c1]; decide)
    refine lv_iconst (v := 0) hx hb dX1_bit_8 (by decide) ?_
    obtain rfl := Option.some.inj h
    rw [eQ]
    exact p_iret hx hb hr hlk dX1_bit_9 rfl
  · have h := it_pos h (by rw [c1])
    refine lv_iconst (v := 1) hx hb dX1_bit_4 (by decide) ?_
    refine lv_goto (tgt := 9) hx hb dX1_bit_5 (by decide) ?_
    obtain rfl := Option.some.inj h
    rw [eQ]
    exact p_iret hx hb hr hlk dX1_bit_9 rfl

abbrev R_X1_isIn : Room := { frames := 0, cells := 0, slots := 0, locals := 0 }
noncomputable def f_X1_isIn (x0 : Int32) (x1 : Int32) (x2 : Int32) : Option (Bool) :=
  (if x0 < x1 then
    some false
  else
    (if x2 < x0 then
      some false
    else
      some true
    )
  )
theorem hd_X1_isIn : Hd yX1_isIn 3 := by unfold Hd; decide +kernel
set_option maxHeartbeats 4000000 in
set_option maxRecDepth 100000 in
theorem m_X1_isIn {l : Launch} {D : DD}   (x0 : Int32) (x1 : Int32) (x2 : Int32) (r : Bool) (h : f_X1_isIn x0 x1 x2 = some r) : MP l D yX1_isIn cX1_isIn 3 (some .boolean) 0 0 [.int x0, .int x1, .int x2] NoPre (some (.int (bI r))) := by
  refine MP.start (by decide +kernel) (Nat.le_of_ble_eq_true rfl) ?_
  intro p e s m below meth c ls hC hS hp hl
  obtain ⟨hx, hb, hr, hlk, hml, hown, hts, hnm⟩ := id hC
  have hl : lv_has ls 3 [(0, .int x0), (1, .int x1), (2, .int x2)] := hl
  unfold f_X1_isIn at h
  have hS0 := hS
  obtain ⟨A, eA⟩ : ∃ A : Array Value, A = [.int x0, .int x1, .int x2].toArray := ⟨_, rfl⟩
  rw [← eA] at hC hts ⊢
  obtain ⟨Q, eQ⟩ : ∃ Q : State → Prop, Q = MQ below (PQ (some (.int (bI r)))) A s 0 0 (fun _ => False) := ⟨_, rfl⟩
  show W p l e R_X1_isIn s m A below meth c s.heap [] 0 0 _ _
  rw [← eQ]
  refine lv_iload_n hx hb dX1_isIn_0 rfl (lv_at hl 0 rfl) ?_
  refine lv_iload_n hx hb dX1_isIn_1 rfl (lv_at hl 1 rfl) ?_
  refine lv_icmp_lt (tgt := 14) hx hb dX1_isIn_2 (by decide) (fun c1 => ?_) (fun c1 => ?_)
  · have h := it_pos h c1
    refine lv_iconst (v := 0) hx hb dX1_isIn_14 (by decide) ?_
    obtain rfl := Option.some.inj h
    rw [eQ]
    exact p_zret hx hb hr hlk (by decide) dX1_isIn_15 rfl
  · have h := it_neg h c1
    refine lv_iload_n hx hb dX1_isIn_5 rfl (lv_at hl 0 rfl) ?_
    refine lv_iload_n hx hb dX1_isIn_6 rfl (lv_at hl 2 rfl) ?_
    refine lv_icmp_gt (tgt := 14) hx hb dX1_isIn_7 (by decide) (fun c2 => ?_) (fun c2 => ?_)
    · have h := it_pos h c2
      refine lv_iconst (v := 0) hx hb dX1_isIn_14 (by decide) ?_
      obtain rfl := Option.some.inj h
      rw [eQ]
      exact p_zret hx hb hr hlk (by decide) dX1_isIn_15 rfl
    · have h := it_neg h c2
      refine lv_iconst (v := 1) hx hb dX1_isIn_10 (by decide) ?_
      refine lv_goto (tgt := 15) hx hb dX1_isIn_11 (by decide) ?_
      obtain rfl := Option.some.inj h
      rw [eQ]
      exact p_zret hx hb hr hlk (by decide) dX1_isIn_15 rfl

abbrev R_X1_isInside : Room := { frames := 0, cells := 0, slots := 0, locals := 0 }
noncomputable def f_X1_isInside (x0 : UInt64) (x1 : Bool) : Option (Bool) :=
  lti (dcmpF x0 13830554455654793216 .l) fun v1 =>
  lt (fun (v2 : Bool) =>
  lti (dcmpF x0 13830554455654793216 .l) fun v4 =>
  (if v4 < 0 then
    some false
  else
    lti (dcmpF x0 4607182418800017408 .g) fun v6 =>
    (if 0 < v6 then
      some false
    else
      (if (bI v2) = (bI x1) then
        some true
      else
        some false
      )
    )
  )
  ) fun K3 =>
  lt (fun (_u : Unit) =>
  K3 true
  ) fun K9 =>
  (if v1 = 0 then
    K9 ()
  else
    lti (dcmpF x0 4607182418800017408 .l) fun v11 =>
    (if v11 = 0 then
      K9 ()
    else
      K3 false
    )
  )
theorem hd_X1_isInside : Hd yX1_isInside 2 := by unfold Hd; decide +kernel
set_option maxHeartbeats 4000000 in
set_option maxRecDepth 100000 in
theorem m_X1_isInside {l : Launch} {D : DD}   (x0 : UInt64) (x1 : Bool) (r : Bool) (h : f_X1_isInside x0 x1 = some r) : MP l D yX1_isInside cX1_isInside 4 (some .boolean) 0 0 [.double x0, .int (bI x1)] NoPre (some (.int (bI r))) := by
  refine MP.start (by decide +kernel) (Nat.le_of_ble_eq_true rfl) ?_
  intro p e s m below meth c ls hC hS hp hl
  obtain ⟨hx, hb, hr, hlk, hml, hown, hts, hnm⟩ := id hC
  have hl : lv_has ls 4 [(0, .double x0), (2, .int (bI x1))] := hl
  unfold f_X1_isInside at h
  have hS0 := hS
  obtain ⟨A, eA⟩ : ∃ A : Array Value, A = [.double x0, .int (bI x1)].toArray := ⟨_, rfl⟩
  rw [← eA] at hC hts ⊢
  obtain ⟨Q, eQ⟩ : ∃ Q : State → Prop, Q = MQ below (PQ (some (.int (bI r)))) A s 0 0 (fun _ => False) := ⟨_, rfl⟩
  show W p l e R_X1_isInside s m A below meth c s.heap [] 0 0 _ _
  rw [← eQ]
  refine lv_dload_n hx hb dX1_isInside_0 rfl (lv_at hl 0 rfl) ?_
  refine lv_ldc2d hx hb (v := 13830554455654793216) hown (hts _ q401) dX1_isInside_1 ?_
  obtain ⟨v1, ev1, h⟩ := lti_step h
  refine r_dcmp hx hb ev1 dX1_isInside_4 ?_
  obtain ⟨K3, eK3, h⟩ := lt_step h
  have HK3 : ∀ (v2 : Bool) (h : K3 v2 = some r)  (ls : Array Slot) (hl : lv_has ls 4 [(0, .double x0), (2, .int (bI x1))]), W p l e R_X1_isInside s m A below meth c s.heap [] 0 0 Q (F0 m 19 ls [.int (bI v2)]) := by
    intro v2 h  ls hl
    subst eK3
    refine lv_istore_n (lv' := [(3, .int (bI v2)), (0, .double x0), (2, .int (bI x1))]) hx hb dX1_isInside_19 rfl hl (by decide) rfl (fun ls hl => ?_)
    refine lv_dload_n hx hb dX1_isInside_20 rfl (lv_at hl 1 rfl) ?_
    refine lv_ldc2d hx hb (v := 13830554455654793216) hown (hts _ q401) dX1_isInside_21 ?_
    obtain ⟨v4, ev4, h⟩ := lti_step h
    refine r_dcmp hx hb ev4 dX1_isInside_24 ?_
    refine lv_if_lt (tgt := 43) hx hb dX1_isInside_25 (by decide) (fun c5 => ?_) (fun c5 => ?_)
    · have h := it_pos h c5
      refine lv_iconst (v := 0) hx hb dX1_isInside_43 (by decide) ?_
      obtain rfl := Option.some.inj h
      rw [eQ]
      exact p_zret hx hb hr hlk (by decide) dX1_isInside_44 rfl
    · have h := it_neg h c5
      refine lv_dload_n hx hb dX1_isInside_28 rfl (lv_at hl 1 rfl) ?_
      refine lv_dconst1 hx hb dX1_isInside_29 ?_
      obtain ⟨v6, ev6, h⟩ := lti_step h
      refine r_dcmp hx hb ev6 dX1_isInside_30 ?_
      refine lv_if_gt (tgt := 43) hx hb dX1_isInside_31 (by decide) (fun c7 => ?_) (fun c7 => ?_)
      · have h := it_pos h c7
        refine lv_iconst (v := 0) hx hb dX1_isInside_43 (by decide) ?_
        obtain rfl := Option.some.inj h
        rw [eQ]
        exact p_zret hx hb hr hlk (by decide) dX1_isInside_44 rfl
      · have h := it_neg h c7
        refine lv_iload_n hx hb dX1_isInside_34 rfl (lv_at hl 0 rfl) ?_
        refine lv_iload_n hx hb dX1_isInside_35 rfl (lv_at hl 2 rfl) ?_
        refine lv_icmp_ne (tgt := 43) hx hb dX1_isInside_36 (by decide) (fun c8 => ?_) (fun c8 => ?_)
        · have h := it_neg h c8
          refine lv_iconst (v := 0) hx hb dX1_isInside_43 (by decide) ?_
          obtain rfl := Option.some.inj h
          rw [eQ]
          exact p_zret hx hb hr hlk (by decide) dX1_isInside_44 rfl
        · have h := it_pos h c8
          refine lv_iconst (v := 1) hx hb dX1_isInside_39 (by decide) ?_
          refine lv_goto (tgt := 44) hx hb dX1_isInside_40 (by decide) ?_
          obtain rfl := Option.some.inj h
          rw [eQ]
          exact p_zret hx hb hr hlk (by decide) dX1_isInside_44 rfl
  clear eK3
  obtain ⟨K9, eK9, h⟩ := lt_step h
  have HK9 : ∀  (h : K9 () = some r)  (ls : Array Slot) (hl : lv_has ls 4 [(0, .double x0), (2, .int (bI x1))]), W p l e R_X1_isInside s m A below meth c s.heap [] 0 0 Q (F0 m 14 ls []) := by
    intro h  ls hl
    subst eK9
    refine lv_iconst (v := 1) hx hb dX1_isInside_14 (by decide) ?_
    refine lv_goto (tgt := 19) hx hb dX1_isInside_15 (by decide) ?_
    exact HK3 true h  ls (lv_sub hl [0, 1] rfl)
  clear eK9
  refine lv_if_eq (tgt := 14) hx hb dX1_isInside_5 (by decide) (fun c10 => ?_) (fun c10 => ?_)
  · have h := it_pos h c10
    exact HK9  h  ls (lv_sub hl [0, 1] rfl)
  · have h := it_neg h c10
    refine lv_dload_n hx hb dX1_isInside_8 rfl (lv_at hl 0 rfl) ?_
    refine lv_dconst1 hx hb dX1_isInside_9 ?_
    obtain ⟨v11, ev11, h⟩ := lti_step h
    refine r_dcmp hx hb ev11 dX1_isInside_10 ?_
    refine lv_if_ne (tgt := 18) hx hb dX1_isInside_11 (by decide) (fun c12 => ?_) (fun c12 => ?_)
    · have h := it_neg h c12
      refine lv_iconst (v := 0) hx hb dX1_isInside_18 (by decide) ?_
      exact HK3 false h  ls (lv_sub hl [0, 1] rfl)
    · have h := it_pos h c12
      exact HK9  h  ls (lv_sub hl [0, 1] rfl)

abbrev R_X1_isMirror : Room := { frames := 3, cells := 0, slots := 0, locals := 65 }
noncomputable def f_X1_isMirror (x0 : Int32) (x1 : UInt64) (x2 : UInt64) : Option (Bool) :=
  Option.bind (f_X1_digitsOf x1) fun o1 =>
  lt (fun (v2 : Int64) =>
  lti (lg_cmp o1 v2) fun v4 =>
  (if v4 = 0 then
    some true
  else
    some false
  )
  ) fun K3 =>
  (if x0 = 1 then
    Option.bind (f_X1_digitsOf x2) fun o9 =>
    K3 o9
  else
    Option.bind (f_X1_digitsOf x2) fun o7 =>
    ltl ((o7 ^^^ (-9223372036854775808) : Int64)) fun v8 =>
    K3 v8
  )
theorem hd_X1_isMirror : Hd yX1_isMirror 3 := by unfold Hd; decide +kernel
set_option maxHeartbeats 4000000 in
set_option maxRecDepth 100000 in
theorem m_X1_isMirror {l : Launch} {D : DD}   (x0 : Int32) (x1 : UInt64) (x2 : UInt64) (r : Bool) (h : f_X1_isMirror x0 x1 x2 = some r) : MP l D yX1_isMirror cX1_isMirror 5 (some .boolean) 3 65 [.int x0, .double x1, .double x2] NoPre (some (.int (bI r))) := by
  refine MP.start (by decide +kernel) (Nat.le_of_ble_eq_true rfl) ?_
  intro p e s m below meth c ls hC hS hp hl
  obtain ⟨hx, hb, hr, hlk, hml, hown, hts, hnm⟩ := id hC
  have hl : lv_has ls 5 [(0, .int x0), (1, .double x1), (3, .double x2)] := hl
  unfold f_X1_isMirror at h
  have hS0 := hS
  obtain ⟨A, eA⟩ : ∃ A : Array Value, A = [.int x0, .double x1, .double x2].toArray := ⟨_, rfl⟩
  rw [← eA] at hC hts ⊢
  obtain ⟨Q, eQ⟩ : ∃ Q : State → Prop, Q = MQ below (PQ (some (.int (bI r)))) A s 0 0 (fun _ => False) := ⟨_, rfl⟩
  show W p l e R_X1_isMirror s m A below meth c s.heap [] 0 0 _ _
  rw [← eQ]
  refine lv_dload_n hx hb dX1_isMirror_0 rfl (lv_at hl 1 rfl) ?_
  obtain ⟨o1, eo1, h⟩ := bind_step h
  refine r_cp (r_runS (rest := []) (As := [.double x1]) hC 1 (m_X1_digitsOf   x1 o1 eo1) q363 q364 q46 q365 hd_X1_digitsOf rfl ⟨Nat.le_of_ble_eq_true rfl, Nat.le_of_ble_eq_true rfl⟩ hS trivial hl.1 rfl (Nat.le_of_ble_eq_true rfl) dX1_isMirror_1 ⟨Nat.le_of_ble_eq_true rfl, Nat.le_of_ble_eq_true rfl⟩) ?_
  refine lv_iload_n hx hb dX1_isMirror_4 rfl (lv_at hl 0 rfl) ?_
  refine lv_iconst (v := 1) hx hb dX1_isMirror_5 (by decide) ?_
  obtain ⟨K3, eK3, h⟩ := lt_step h
  have HK3 : ∀ (v2 : Int64) (h : K3 v2 = some r)  (ls : Array Slot) (hl : lv_has ls 5 []), W p l e R_X1_isMirror s m A below meth c s.heap [] 0 0 Q (F0 m 24 ls [.long v2, .long o1]) := by
    intro v2 h  ls hl
    subst eK3
    obtain ⟨v4, ev4, h⟩ := lti_step h
    refine r_lcmp hx hb ev4 dX1_isMirror_24 ?_
    refine lv_if_ne (tgt := 32) hx hb dX1_isMirror_25 (by decide) (fun c5 => ?_) (fun c5 => ?_)
    · have h := it_neg h c5
      refine lv_iconst (v := 0) hx hb dX1_isMirror_32 (by decide) ?_
      obtain rfl := Option.some.inj h
      rw [eQ]
      exact p_zret hx hb hr hlk (by decide) dX1_isMirror_33 rfl
    · have h := it_pos h c5
      refine lv_iconst (v := 1) hx hb dX1_isMirror_28 (by decide) ?_
      refine lv_goto (tgt := 33) hx hb dX1_isMirror_29 (by decide) ?_
      obtain rfl := Option.some.inj h
      rw [eQ]
      exact p_zret hx hb hr hlk (by decide) dX1_isMirror_33 rfl
  clear eK3
  refine lv_icmp_ne (tgt := 16) hx hb dX1_isMirror_6 (by decide) (fun c6 => ?_) (fun c6 => ?_)
  · have h := it_neg h c6
    refine lv_dload_n hx hb dX1_isMirror_16 rfl (lv_at hl 2 rfl) ?_
    obtain ⟨o7, eo7, h⟩ := bind_step h
    refine r_cp (r_runS (rest := [.long o1]) (As := [.double x2]) hC 1 (m_X1_digitsOf   x2 o7 eo7) q363 q364 q46 q365 hd_X1_digitsOf rfl ⟨Nat.le_of_ble_eq_true rfl, Nat.le_of_ble_eq_true rfl⟩ hS trivial hl.1 rfl (Nat.le_of_ble_eq_true rfl) dX1_isMirror_17 ⟨Nat.le_of_ble_eq_true rfl, Nat.le_of_ble_eq_true rfl⟩) ?_
    refine lv_ldc2 hx hb (v := (-9223372036854775808)) hown (hts _ q405) dX1_isMirror_20 ?_
    obtain ⟨v8, ev8, h⟩ := ltl_step h
    refine r_lxor hx hb ev8 dX1_isMirror_23 ?_
    exact HK3 v8 h  ls (lv_sub hl [] rfl)
  · have h := it_pos h c6
    refine lv_dload_n hx hb dX1_isMirror_9 rfl (lv_at hl 2 rfl) ?_
    obtain ⟨o9, eo9, h⟩ := bind_step h
    refine r_cp (r_runS (rest := [.long o1]) (As := [.double x2]) hC 1 (m_X1_digitsOf   x2 o9 eo9) q363 q364 q46 q365 hd_X1_digitsOf rfl ⟨Nat.le_of_ble_eq_true rfl, Nat.le_of_ble_eq_true rfl⟩ hS trivial hl.1 rfl (Nat.le_of_ble_eq_true rfl) dX1_isMirror_10 ⟨Nat.le_of_ble_eq_true rfl, Nat.le_of_ble_eq_true rfl⟩) ?_
    refine lv_goto (tgt := 24) hx hb dX1_isMirror_13 (by decide) ?_
    exact HK3 o9 h  ls (lv_sub hl [] rfl)

abbrev R_X1_mustBeCell : Room := { frames := 1, cells := 0, slots := 0, locals := 22 }
noncomputable def f_X1_mustBeCell (x0 : Int32) : Option (Unit) :=
  Option.bind (f_X1_isIn x0 0 7) fun o1 =>
  (if o1 = true then
    some ()
  else
    none
  )
theorem hd_X1_mustBeCell : Hd yX1_mustBeCell 1 := by unfold Hd; decide +kernel
set_option maxHeartbeats 4000000 in
set_option maxRecDepth 100000 in
theorem m_X1_mustBeCell {l : Launch} {D : DD}   (x0 : Int32) (r : Unit) (h : f_X1_mustBeCell x0 = some r) : MP l D yX1_mustBeCell cX1_mustBeCell 1 none 1 22 [.int x0] NoPre none := by
  refine MP.start (by decide +kernel) (Nat.le_of_ble_eq_true rfl) ?_
  intro p e s m below meth c ls hC hS hp hl
  obtain ⟨hx, hb, hr, hlk, hml, hown, hts, hnm⟩ := id hC
  have hl : lv_has ls 1 [(0, .int x0)] := hl
  unfold f_X1_mustBeCell at h
  have hS0 := hS
  obtain ⟨A, eA⟩ : ∃ A : Array Value, A = [.int x0].toArray := ⟨_, rfl⟩
  rw [← eA] at hC hts ⊢
  obtain ⟨Q, eQ⟩ : ∃ Q : State → Prop, Q = MQ below (PQ none) A s 0 0 (fun _ => False) := ⟨_, rfl⟩
  show W p l e R_X1_mustBeCell s m A below meth c s.heap [] 0 0 _ _
  rw [← eQ]
  refine lv_iload_n hx hb dX1_mustBeCell_0 rfl (lv_at hl 0 rfl) ?_
  refine lv_iconst (v := 0) hx hb dX1_mustBeCell_1 (by decide) ?_
  refine lv_bipush (v := 7) hx hb dX1_mustBeCell_2 (by decide) ?_
  obtain ⟨o1, eo1, h⟩ := bind_step h
  refine r_cp (r_runS (rest := []) (As := [.int x0, .int 0, .int 7]) hC 3 (m_X1_isIn   x0 0 7 o1 eo1) q395 q396 q46 q397 hd_X1_isIn rfl ⟨Nat.le_of_ble_eq_true rfl, Nat.le_of_ble_eq_true rfl⟩ hS trivial hl.1 rfl (Nat.le_of_ble_eq_true rfl) dX1_mustBeCell_4 ⟨Nat.le_of_ble_eq_true rfl, Nat.le_of_ble_eq_true rfl⟩) ?_
  refine r_ifz_ne (tgt := 18) hx hb dX1_mustBeCell_7 (by decide) (fun c2 => ?_) (fun c2 => ?_)
  · have h := it_pos h (by rw [c2])
    obtain rfl := Option.some.inj h
    rw [eQ]
    exact p_vret hx hb hr hlk dX1_mustBeCell_18
  · have h := it_neg h (by rw [c2]; decide)
    cases h

abbrev R_X1_heightAt : Room := { frames := 2, cells := 0, slots := 0, locals := 42 }
noncomputable def f_X1_heightAt (x0r0c : Nat → UInt64) (x0r1c : Nat → UInt64) (x0r2c : Nat → Int32) (x0f3 : Int32) (x0f4 : Int32) (x0f5 : Int32) (x0f6 : Int32) (x1 : Int32) : Option (UInt64) :=
  Option.bind (f_X1_mustBeCell x1) fun o1 =>
  gd 8 x1 fun i2 =>
  ltd (x0r1c i2) fun v3 =>
  some v3
theorem hd_X1_heightAt : Hd yX1_heightAt 1 := by unfold Hd; decide +kernel
set_option maxHeartbeats 4000000 in
set_option maxRecDepth 100000 in
theorem m_X1_heightAt {l : Launch} {D : DD} (x0 : Nat) (x0r0 : Nat) (x0r1 : Nat) (x0r2 : Nat)  (x0r0c : Nat → UInt64) (x0r1c : Nat → UInt64) (x0r2c : Nat → Int32) (x0f3 : Int32) (x0f4 : Int32) (x0f5 : Int32) (x0f6 : Int32) (x1 : Int32) (r : UInt64) (h : f_X1_heightAt x0r0c x0r1c x0r2c x0f3 x0f4 x0f5 x0f6 x1 = some r) : MP l D yX1_heightAt cX1_heightAt 2 (some .double) 2 42 [.ref x0, .int x1] (fun H => ON D 0 x0 [.ref x0r0, .ref x0r1, .ref x0r2, .int x0f3, .int x0f4, .int x0f5, .int x0f6] H ∧ aD D x0r0 8 x0r0c H ∧ aD D x0r1 8 x0r1c H ∧ aZ D x0r2 8 x0r2c H) (some (.double r)) := by
  refine MP.start (by decide +kernel) (Nat.le_of_ble_eq_true rfl) ?_
  intro p e s m below meth c ls hC hS hp hl
  obtain ⟨h_x0, h_x0r0, h_x0r1, h_x0r2⟩ := hp
  obtain ⟨hx, hb, hr, hlk, hml, hown, hts, hnm⟩ := id hC
  have hl : lv_has ls 2 [(0, .ref x0), (1, .int x1)] := hl
  unfold f_X1_heightAt at h
  have hS0 := hS
  obtain ⟨A, eA⟩ : ∃ A : Array Value, A = [.ref x0, .int x1].toArray := ⟨_, rfl⟩
  rw [← eA] at hC hts ⊢
  obtain ⟨Q, eQ⟩ : ∃ Q : State → Prop, Q = MQ below (PQ (some (.double r))) A s 0 0 (fun _ => False) := ⟨_, rfl⟩
  show W p l e R_X1_heightAt s m A below meth c s.heap [] 0 0 _ _
  rw [← eQ]
  refine lv_iload_n hx hb dX1_heightAt_0 rfl (lv_at hl 1 rfl) ?_
  obtain ⟨o1, eo1, h⟩ := bind_step h
  refine r_cpv (r_runS (rest := []) (As := [.int x1]) hC 1 (m_X1_mustBeCell   x1 o1 eo1) q956 q957 q46 q958 hd_X1_mustBeCell rfl ⟨Nat.le_of_ble_eq_true rfl, Nat.le_of_ble_eq_true rfl⟩ hS trivial hl.1 rfl (Nat.le_of_ble_eq_true rfl) dX1_heightAt_1 ⟨Nat.le_of_ble_eq_true rfl, Nat.le_of_ble_eq_true rfl⟩) ?_
  refine lv_aload_n hx hb dX1_heightAt_4 rfl (lv_at hl 0 rfl) ?_
  refine r_get hx hb hts hown hS h_x0.OA rfl in_X1 1 (by decide) q915 rfl (v := .ref x0r1) rfl dX1_heightAt_5 ?_
  refine lv_iload_n hx hb dX1_heightAt_8 rfl (lv_at hl 1 rfl) ?_
  obtain ⟨i2, xi2, h⟩ := gd_step (by decide) h
  refine r_dald hx hb hS h_x0r1 i2 xi2 dX1_heightAt_9 ?_
  obtain ⟨v3, ev3, h⟩ := ltd_step h
  refine r_nmD ev3 ?_
  obtain rfl := Option.some.inj h
  rw [eQ]
  exact p_dret hx hb hr hlk dX1_heightAt_10 rfl

abbrev R_X1_mustFit : Room := { frames := 0, cells := 0, slots := 0, locals := 0 }
noncomputable def f_X1_mustFit (x0 : Bool) : Option (Unit) :=
  (if x0 = true then
    some ()
  else
    none
  )
theorem hd_X1_mustFit : Hd yX1_mustFit 1 := by unfold Hd; decide +kernel
set_option maxHeartbeats 4000000 in
set_option maxRecDepth 100000 in
theorem m_X1_mustFit {l : Launch} {D : DD}   (x0 : Bool) (r : Unit) (h : f_X1_mustFit x0 = some r) : MP l D yX1_mustFit cX1_mustFit 1 none 0 0 [.int (bI x0)] NoPre none := by
  refine MP.start (by decide +kernel) (Nat.le_of_ble_eq_true rfl) ?_
  intro p e s m below meth c ls hC hS hp hl
  obtain ⟨hx, hb, hr, hlk, hml, hown, hts, hnm⟩ := id hC
  have hl : lv_has ls 1 [(0, .int (bI x0))] := hl
  unfold f_X1_mustFit at h
  have hS0 := hS
  obtain ⟨A, eA⟩ : ∃ A : Array Value, A = [.int (bI x0)].toArray := ⟨_, rfl⟩
  rw [← eA] at hC hts ⊢
  obtain ⟨Q, eQ⟩ : ∃ Q : State → Prop, Q = MQ below (PQ none) A s 0 0 (fun _ => False) := ⟨_, rfl⟩
  show W p l e R_X1_mustFit s m A below meth c s.heap [] 0 0 _ _
  rw [← eQ]
  refine lv_iload_n hx hb dX1_mustFit_0 rfl (lv_at hl 0 rfl) ?_
  refine r_ifz_ne (tgt := 12) hx hb dX1_mustFit_1 (by decide) (fun c1 => ?_) (fun c1 => ?_)
  · have h := it_pos h (by rw [c1])
    obtain rfl := Option.some.inj h
    rw [eQ]
    exact p_vret hx hb hr hlk dX1_mustFit_12
  · have h := it_neg h (by rw [c1]; decide)
    cases h

abbrev R_X1_upper : Room := { frames := 3, cells := 0, slots := 0, locals := 65 }
noncomputable def f_X1_upper (x0r0c : Nat → UInt64) (x0r1c : Nat → UInt64) (x0r2c : Nat → Int32) (x0f3 : Int32) (x0f4 : Int32) (x0f5 : Int32) (x0f6 : Int32) (x1 : Int32) : Option (Int32) :=
  Option.bind (f_X1_heightAt x0r0c x0r1c x0r2c x0f3 x0f4 x0f5 x0f6 x1) fun o1 =>
  Option.bind (f_X1_digitsOf o1) fun o2 =>
  ltl ((o2 : Int64) >>> ((32 : Int32).toInt64 &&& 63)) fun v3 =>
  lti (v3.toInt32) fun v4 =>
  some v4
theorem hd_X1_upper : Hd yX1_upper 1 := by unfold Hd; decide +kernel
set_option maxHeartbeats 4000000 in
set_option maxRecDepth 100000 in
theorem m_X1_upper {l : Launch} {D : DD} (x0 : Nat) (x0r0 : Nat) (x0r1 : Nat) (x0r2 : Nat)  (x0r0c : Nat → UInt64) (x0r1c : Nat → UInt64) (x0r2c : Nat → Int32) (x0f3 : Int32) (x0f4 : Int32) (x0f5 : Int32) (x0f6 : Int32) (x1 : Int32) (r : Int32) (h : f_X1_upper x0r0c x0r1c x0r2c x0f3 x0f4 x0f5 x0f6 x1 = some r) : MP l D yX1_upper cX1_upper 2 (some .int) 3 65 [.ref x0, .int x1] (fun H => ON D 0 x0 [.ref x0r0, .ref x0r1, .ref x0r2, .int x0f3, .int x0f4, .int x0f5, .int x0f6] H ∧ aD D x0r0 8 x0r0c H ∧ aD D x0r1 8 x0r1c H ∧ aZ D x0r2 8 x0r2c H) (some (.int r)) := by
  refine MP.start (by decide +kernel) (Nat.le_of_ble_eq_true rfl) ?_
  intro p e s m below meth c ls hC hS hp hl
  obtain ⟨h_x0, h_x0r0, h_x0r1, h_x0r2⟩ := hp
  obtain ⟨hx, hb, hr, hlk, hml, hown, hts, hnm⟩ := id hC
  have hl : lv_has ls 2 [(0, .ref x0), (1, .int x1)] := hl
  unfold f_X1_upper at h
  have hS0 := hS
  obtain ⟨A, eA⟩ : ∃ A : Array Value, A = [.ref x0, .int x1].toArray := ⟨_, rfl⟩
  rw [← eA] at hC hts ⊢
  obtain ⟨Q, eQ⟩ : ∃ Q : State → Prop, Q = MQ below (PQ (some (.int r))) A s 0 0 (fun _ => False) := ⟨_, rfl⟩
  show W p l e R_X1_upper s m A below meth c s.heap [] 0 0 _ _
  rw [← eQ]
  refine lv_aload_n hx hb dX1_upper_0 rfl (lv_at hl 0 rfl) ?_
  refine lv_iload_n hx hb dX1_upper_1 rfl (lv_at hl 1 rfl) ?_
  obtain ⟨o1, eo1, h⟩ := bind_step h
  refine r_cp (r_runV (rest := []) (As := [.int x1]) hC 1 (m_X1_heightAt x0 x0r0 x0r1 x0r2  x0r0c x0r1c x0r2c x0f3 x0f4 x0f5 x0f6 x1 o1 eo1) q1202 q1204 qs13 q46 q1205 (OA.recv hS h_x0.OA (C := RX1) rfl) hd_X1_heightAt rfl ⟨Nat.le_of_ble_eq_true rfl, Nat.le_of_ble_eq_true rfl⟩ hS ⟨h_x0, h_x0r0, h_x0r1, h_x0r2⟩ hl.1 rfl (Nat.le_of_ble_eq_true rfl) dX1_upper_2 ⟨Nat.le_of_ble_eq_true rfl, Nat.le_of_ble_eq_true rfl⟩) ?_
  obtain ⟨o2, eo2, h⟩ := bind_step h
  refine r_cp (r_runS (rest := []) (As := [.double o1]) hC 1 (m_X1_digitsOf   o1 o2 eo2) q363 q364 q46 q365 hd_X1_digitsOf rfl ⟨Nat.le_of_ble_eq_true rfl, Nat.le_of_ble_eq_true rfl⟩ hS trivial hl.1 rfl (Nat.le_of_ble_eq_true rfl) dX1_upper_5 ⟨Nat.le_of_ble_eq_true rfl, Nat.le_of_ble_eq_true rfl⟩) ?_
  refine lv_bipush (v := 32) hx hb dX1_upper_8 (by decide) ?_
  obtain ⟨v3, ev3, h⟩ := ltl_step h
  refine r_lshr hx hb ev3 dX1_upper_10 ?_
  obtain ⟨v4, ev4, h⟩ := lti_step h
  refine r_l2i hx hb ev4 dX1_upper_11 ?_
  obtain rfl := Option.some.inj h
  rw [eQ]
  exact p_iret hx hb hr hlk dX1_upper_12 rfl

abbrev R_X1_house : Room := { frames := 1, cells := 0, slots := 0, locals := 22 }
noncomputable def f_X1_house (x0r0c : Nat → UInt64) (x0r1c : Nat → UInt64) (x0r2c : Nat → Int32) (x0f3 : Int32) (x0f4 : Int32) (x0f5 : Int32) (x0f6 : Int32) (x1 : Int32) : Option (Int32) :=
  Option.bind (f_X1_isIn x1 0 3) fun o1 =>
  Option.bind (f_X1_mustFit o1) fun o2 =>
  (if x1 = 0 then
    some x0f3
  else
  (if x1 = 1 then
    some x0f4
  else
  (if x1 = 2 then
    some x0f5
  else
  some x0f6
  )))
theorem hd_X1_house : Hd yX1_house 1 := by unfold Hd; decide +kernel
set_option maxHeartbeats 4000000 in
set_option maxRecDepth 100000 in
theorem m_X1_house {l : Launch} {D : DD} (x0 : Nat) (x0r0 : Nat) (x0r1 : Nat) (x0r2 : Nat)  (x0r0c : Nat → UInt64) (x0r1c : Nat → UInt64) (x0r2c : Nat → Int32) (x0f3 : Int32) (x0f4 : Int32) (x0f5 : Int32) (x0f6 : Int32) (x1 : Int32) (r : Int32) (h : f_X1_house x0r0c x0r1c x0r2c x0f3 x0f4 x0f5 x0f6 x1 = some r) : MP l D yX1_house cX1_house 2 (some .int) 1 22 [.ref x0, .int x1] (fun H => ON D 0 x0 [.ref x0r0, .ref x0r1, .ref x0r2, .int x0f3, .int x0f4, .int x0f5, .int x0f6] H ∧ aD D x0r0 8 x0r0c H ∧ aD D x0r1 8 x0r1c H ∧ aZ D x0r2 8 x0r2c H) (some (.int r)) := by
  refine MP.start (by decide +kernel) (Nat.le_of_ble_eq_true rfl) ?_
  intro p e s m below meth c ls hC hS hp hl
  obtain ⟨h_x0, h_x0r0, h_x0r1, h_x0r2⟩ := hp
  obtain ⟨hx, hb, hr, hlk, hml, hown, hts, hnm⟩ := id hC
  have hl : lv_has ls 2 [(0, .ref x0), (1, .int x1)] := hl
  unfold f_X1_house at h
  have hS0 := hS
  obtain ⟨A, eA⟩ : ∃ A : Array Value, A = [.ref x0, .int x1].toArray := ⟨_, rfl⟩
  rw [← eA] at hC hts ⊢
  obtain ⟨Q, eQ⟩ : ∃ Q : State → Prop, Q = MQ below (PQ (some (.int r))) A s 0 0 (fun _ => False) := ⟨_, rfl⟩
  show W p l e R_X1_house s m A below meth c s.heap [] 0 0 _ _
  rw [← eQ]
  refine lv_iload_n hx hb dX1_house_0 rfl (lv_at hl 1 rfl) ?_
  refine lv_iconst (v := 0) hx hb dX1_house_1 (by decide) ?_
  refine lv_iconst (v := 3) hx hb dX1_house_2 (by decide) ?_
  obtain ⟨o1, eo1, h⟩ := bind_step h
  refine r_cp (r_runS (rest := []) (As := [.int x1, .int 0, .int 3]) hC 3 (m_X1_isIn   x1 0 3 o1 eo1) q395 q396 q46 q397 hd_X1_isIn rfl ⟨Nat.le_of_ble_eq_true rfl, Nat.le_of_ble_eq_true rfl⟩ hS trivial hl.1 rfl (Nat.le_of_ble_eq_true rfl) dX1_house_3 ⟨Nat.le_of_ble_eq_true rfl, Nat.le_of_ble_eq_true rfl⟩) ?_
  obtain ⟨o2, eo2, h⟩ := bind_step h
  refine r_cpv (r_runS (rest := []) (As := [.int (bI o1)]) hC 1 (m_X1_mustFit   o1 o2 eo2) q1230 q1231 q46 q1232 hd_X1_mustFit rfl ⟨Nat.le_of_ble_eq_true rfl, Nat.le_of_ble_eq_true rfl⟩ hS trivial hl.1 rfl (Nat.le_of_ble_eq_true rfl) dX1_house_6 ⟨Nat.le_of_ble_eq_true rfl, Nat.le_of_ble_eq_true rfl⟩) ?_
  refine lv_iload_n hx hb dX1_house_9 rfl (lv_at hl 1 rfl) ?_
  by_cases c3 : x1 = 0
  · have h := it_pos h c3
    refine r_tabIn (z := 0) (off := 26) (tgt := 36) hx hb c3 dX1_house_10 (by decide) (by decide) (by decide) (by decide) ?_
    refine lv_aload_n hx hb dX1_house_36 rfl (lv_at hl 0 rfl) ?_
    refine r_get hx hb hts hown hS h_x0.OA rfl in_X1 3 (by decide) q917 rfl (v := .int x0f3) rfl dX1_house_37 ?_
    obtain rfl := Option.some.inj h
    rw [eQ]
    exact p_iret hx hb hr hlk dX1_house_40 rfl
  have h := it_neg h c3
  by_cases c4 : x1 = 1
  · have h := it_pos h c4
    refine r_tabIn (z := 1) (off := 31) (tgt := 41) hx hb c4 dX1_house_10 (by decide) (by decide) (by decide) (by decide) ?_
    refine lv_aload_n hx hb dX1_house_41 rfl (lv_at hl 0 rfl) ?_
    refine r_get hx hb hts hown hS h_x0.OA rfl in_X1 4 (by decide) q918 rfl (v := .int x0f4) rfl dX1_house_42 ?_
    obtain rfl := Option.some.inj h
    rw [eQ]
    exact p_iret hx hb hr hlk dX1_house_45 rfl
  have h := it_neg h c4
  by_cases c5 : x1 = 2
  · have h := it_pos h c5
    refine r_tabIn (z := 2) (off := 36) (tgt := 46) hx hb c5 dX1_house_10 (by decide) (by decide) (by decide) (by decide) ?_
    refine lv_aload_n hx hb dX1_house_46 rfl (lv_at hl 0 rfl) ?_
    refine r_get hx hb hts hown hS h_x0.OA rfl in_X1 5 (by decide) q919 rfl (v := .int x0f5) rfl dX1_house_47 ?_
    obtain rfl := Option.some.inj h
    rw [eQ]
    exact p_iret hx hb hr hlk dX1_house_50 rfl
  have h := it_neg h c5
  refine lv_tableOut (tgt := 51) hx hb dX1_house_10 (tab_out3 c3 c4 c5) (by decide) ?_
  refine lv_aload_n hx hb dX1_house_51 rfl (lv_at hl 0 rfl) ?_
  refine r_get hx hb hts hown hS h_x0.OA rfl in_X1 6 (by decide) q920 rfl (v := .int x0f6) rfl dX1_house_52 ?_
  obtain rfl := Option.some.inj h
  rw [eQ]
  exact p_iret hx hb hr hlk dX1_house_55 rfl

abbrev R_X1_add : Room := { frames := 0, cells := 0, slots := 0, locals := 0 }
noncomputable def f_X1_add (x0 : Int64) (x1 : Int64) : Option (Int64) :=
  ltl ((31 * x0 : Int64)) fun v1 =>
  ltl ((v1 + x1 : Int64)) fun v2 =>
  some v2
theorem hd_X1_add : Hd yX1_add 2 := by unfold Hd; decide +kernel
set_option maxHeartbeats 4000000 in
set_option maxRecDepth 100000 in
theorem m_X1_add {l : Launch} {D : DD}   (x0 : Int64) (x1 : Int64) (r : Int64) (h : f_X1_add x0 x1 = some r) : MP l D yX1_add cX1_add 4 (some .long) 0 0 [.long x0, .long x1] NoPre (some (.long r)) := by
  refine MP.start (by decide +kernel) (Nat.le_of_ble_eq_true rfl) ?_
  intro p e s m below meth c ls hC hS hp hl
  obtain ⟨hx, hb, hr, hlk, hml, hown, hts, hnm⟩ := id hC
  have hl : lv_has ls 4 [(0, .long x0), (2, .long x1)] := hl
  unfold f_X1_add at h
  have hS0 := hS
  obtain ⟨A, eA⟩ : ∃ A : Array Value, A = [.long x0, .long x1].toArray := ⟨_, rfl⟩
  rw [← eA] at hC hts ⊢
  obtain ⟨Q, eQ⟩ : ∃ Q : State → Prop, Q = MQ below (PQ (some (.long r))) A s 0 0 (fun _ => False) := ⟨_, rfl⟩
  show W p l e R_X1_add s m A below meth c s.heap [] 0 0 _ _
  rw [← eQ]
  refine lv_ldc2 hx hb (v := 31) hown (hts _ q1265) dX1_add_0 ?_
  refine lv_lload_n hx hb dX1_add_3 rfl (lv_at hl 0 rfl) ?_
  obtain ⟨v1, ev1, h⟩ := ltl_step h
  refine r_lmul hx hb ev1 dX1_add_4 ?_
  refine lv_lload_n hx hb dX1_add_5 rfl (lv_at hl 1 rfl) ?_
  obtain ⟨v2, ev2, h⟩ := ltl_step h
  refine r_ladd hx hb ev2 dX1_add_6 ?_
  obtain rfl := Option.some.inj h
  rw [eQ]
  exact p_lret hx hb hr hlk dX1_add_7 rfl

abbrev R_X1_isSame : Room := { frames := 3, cells := 0, slots := 0, locals := 65 }
noncomputable def f_X1_isSame (x0 : UInt64) (x1 : UInt64) : Option (Bool) :=
  Option.bind (f_X1_digitsOf x0) fun o1 =>
  Option.bind (f_X1_digitsOf x1) fun o2 =>
  lti (lg_cmp o1 o2) fun v3 =>
  (if v3 = 0 then
    some true
  else
    some false
  )
theorem hd_X1_isSame : Hd yX1_isSame 2 := by unfold Hd; decide +kernel
set_option maxHeartbeats 4000000 in
set_option maxRecDepth 100000 in
theorem m_X1_isSame {l : Launch} {D : DD}   (x0 : UInt64) (x1 : UInt64) (r : Bool) (h : f_X1_isSame x0 x1 = some r) : MP l D yX1_isSame cX1_isSame 4 (some .boolean) 3 65 [.double x0, .double x1] NoPre (some (.int (bI r))) := by
  refine MP.start (by decide +kernel) (Nat.le_of_ble_eq_true rfl) ?_
  intro p e s m below meth c ls hC hS hp hl
  obtain ⟨hx, hb, hr, hlk, hml, hown, hts, hnm⟩ := id hC
  have hl : lv_has ls 4 [(0, .double x0), (2, .double x1)] := hl
  unfold f_X1_isSame at h
  have hS0 := hS
  obtain ⟨A, eA⟩ : ∃ A : Array Value, A = [.double x0, .double x1].toArray := ⟨_, rfl⟩
  rw [← eA] at hC hts ⊢
  obtain ⟨Q, eQ⟩ : ∃ Q : State → Prop, Q = MQ below (PQ (some (.int (bI r)))) A s 0 0 (fun _ => False) := ⟨_, rfl⟩
  show W p l e R_X1_isSame s m A below meth c s.heap [] 0 0 _ _
  rw [← eQ]
  refine lv_dload_n hx hb dX1_isSame_0 rfl (lv_at hl 0 rfl) ?_
  obtain ⟨o1, eo1, h⟩ := bind_step h
  refine r_cp (r_runS (rest := []) (As := [.double x0]) hC 1 (m_X1_digitsOf   x0 o1 eo1) q363 q364 q46 q365 hd_X1_digitsOf rfl ⟨Nat.le_of_ble_eq_true rfl, Nat.le_of_ble_eq_true rfl⟩ hS trivial hl.1 rfl (Nat.le_of_ble_eq_true rfl) dX1_isSame_1 ⟨Nat.le_of_ble_eq_true rfl, Nat.le_of_ble_eq_true rfl⟩) ?_
  refine lv_dload_n hx hb dX1_isSame_4 rfl (lv_at hl 1 rfl) ?_
  obtain ⟨o2, eo2, h⟩ := bind_step h
  refine r_cp (r_runS (rest := [.long o1]) (As := [.double x1]) hC 1 (m_X1_digitsOf   x1 o2 eo2) q363 q364 q46 q365 hd_X1_digitsOf rfl ⟨Nat.le_of_ble_eq_true rfl, Nat.le_of_ble_eq_true rfl⟩ hS trivial hl.1 rfl (Nat.le_of_ble_eq_true rfl) dX1_isSame_5 ⟨Nat.le_of_ble_eq_true rfl, Nat.le_of_ble_eq_true rfl⟩) ?_
  obtain ⟨v3, ev3, h⟩ := lti_step h
  refine r_lcmp hx hb ev3 dX1_isSame_8 ?_
  refine lv_if_ne (tgt := 16) hx hb dX1_isSame_9 (by decide) (fun c4 => ?_) (fun c4 => ?_)
  · have h := it_neg h c4
    refine lv_iconst (v := 0) hx hb dX1_isSame_16 (by decide) ?_
    obtain rfl := Option.some.inj h
    rw [eQ]
    exact p_zret hx hb hr hlk (by decide) dX1_isSame_17 rfl
  · have h := it_pos h c4
    refine lv_iconst (v := 1) hx hb dX1_isSame_12 (by decide) ?_
    refine lv_goto (tgt := 17) hx hb dX1_isSame_13 (by decide) ?_
    obtain rfl := Option.some.inj h
    rw [eQ]
    exact p_zret hx hb hr hlk (by decide) dX1_isSame_17 rfl

abbrev R_X1_orderOf : Room := { frames := 4, cells := 2, slots := 2, locals := 92 }
noncomputable def f_X1_orderOf (x0 : UInt64) (x1 : UInt64) (x2 : Int32) : Option (Int32) :=
  (if x2 = 0 then
    Option.bind (f_J10_compare x0 x1) fun o8 =>
    Option.bind (f_J26_signum o8) fun o9 =>
    some o9
  else
    Option.bind (f_J10_valueOf x0) fun o2 =>
    Option.bind (f_J10_valueOf x1) fun o4 =>
    Option.bind (f_J10_compareTo o2 o4) fun o6 =>
    Option.bind (f_J26_signum o6) fun o7 =>
    some o7
  )
theorem hd_X1_orderOf : Hd yX1_orderOf 3 := by unfold Hd; decide +kernel
set_option maxHeartbeats 4000000 in
set_option maxRecDepth 100000 in
theorem m_X1_orderOf {l : Launch} {D : DD}   (x0 : UInt64) (x1 : UInt64) (x2 : Int32) (r : Int32) (h : f_X1_orderOf x0 x1 x2 = some r) : MT l D yX1_orderOf cX1_orderOf 6 (some .int) 4 92 2 2 [.double x0, .double x1, .int x2] NoPre (pI (fun H b H' => b = r ∧ Off (fun _ => False) H H')) := by
  refine MT.start (by decide +kernel) (Nat.le_of_ble_eq_true rfl) ?_
  intro p e s m below meth c ls hC hS hp hl
  obtain ⟨hx, hb, hr, hlk, hml, hown, hts, hnm⟩ := id hC
  have hl : lv_has ls 6 [(0, .double x0), (2, .double x1), (4, .int x2)] := hl
  unfold f_X1_orderOf at h
  have hS0 := hS
  obtain ⟨A, eA⟩ : ∃ A : Array Value, A = [.double x0, .double x1, .int x2].toArray := ⟨_, rfl⟩
  rw [← eA] at hC hts ⊢
  obtain ⟨Q, eQ⟩ : ∃ Q : State → Prop, Q = MQ below (TQ D (pI (fun H b H' => b = r ∧ Off (fun _ => False) H H'))) A s 2 2 (fun q => dB D ≤ q) := ⟨_, rfl⟩
  have hF : Off (fun _ => False) s.heap s.heap := Off.rf
  show W p l e R_X1_orderOf s m A below meth c s.heap [] 0 0 _ _
  rw [← eQ]
  obtain ⟨H, eH⟩ : ∃ H : Heap, H = s.heap := ⟨_, rfl⟩
  obtain ⟨locs, eLc⟩ : ∃ L : List Loc, L = [] := ⟨_, rfl⟩
  rw [← eH, ← eLc]
  have hF : Off (fun _ => False) s.heap H := by rw [eH]; exact hF
  have hS : St D s H locs := by rw [eH, eLc]; exact hS
  refine lv_iload hx hb dX1_orderOf_0 (lv_at hl 2 rfl) ?_
  refine lv_if_ne (tgt := 14) hx hb dX1_orderOf_2 (by decide) (fun c1 => ?_) (fun c1 => ?_)
  · have h := it_neg h c1
    refine lv_dload_n hx hb dX1_orderOf_14 rfl (lv_at hl 0 rfl) ?_
    obtain ⟨o2, eo2, h⟩ := bind_step h
    refine r_cr (r_runS (rest := []) (As := [.double x0]) hC 1 (m_J10_valueOf   x0 o2 eo2) q1301 q1302 q51 q1303 hd_J10_valueOf rfl ⟨Nat.le_of_ble_eq_true rfl, Nat.le_of_ble_eq_true rfl⟩ hS trivial hl.1 rfl (Nat.le_of_ble_eq_true rfl) dX1_orderOf_15 ⟨Nat.le_of_ble_eq_true rfl, Nat.le_of_ble_eq_true rfl⟩) hS (fun ad3 H locs hp hS hz => ?_)
    obtain ⟨had3, frad3, hO⟩ := hp
    have gad3 : s.heap.size ≤ ad3 := Nat.le_trans hF.1 frad3
    have hB_had3 : dB D ≤ ad3 := by have := hS0.1.2.2.1; omega
    have hF := hF.trans (hO.mono (fun _ _ z => z.elim))
    refine lv_astore (lv' := [(5, .ref ad3), (0, .double x0), (2, .double x1), (4, .int x2)]) hx hb dX1_orderOf_18 hl (by decide) rfl (fun ls hl => ?_)
    refine lv_aload hx hb dX1_orderOf_20 (lv_at hl 0 rfl) ?_
    refine lv_dload_n hx hb dX1_orderOf_22 rfl (lv_at hl 2 rfl) ?_
    obtain ⟨o4, eo4, h⟩ := bind_step h
    refine r_cr (r_runS (rest := [.ref ad3]) (As := [.double x1]) hC 1 (m_J10_valueOf   x1 o4 eo4) q1301 q1302 q51 q1303 hd_J10_valueOf rfl ⟨Nat.le_of_ble_eq_true rfl, Nat.le_of_ble_eq_true rfl⟩ hS trivial hl.1 rfl (Nat.le_of_ble_eq_true rfl) dX1_orderOf_23 ⟨Nat.le_of_ble_eq_true rfl, Nat.le_of_ble_eq_true rfl⟩) hS (fun ad5 H locs hp hS hz => ?_)
    obtain ⟨had5, frad5, hO⟩ := hp
    have ne_had3_had5 : ad3 ≠ ad5 := Nat.ne_of_lt (Nat.lt_of_lt_of_le had3.lt frad5)
    have gad5 : s.heap.size ≤ ad5 := Nat.le_trans hF.1 frad5
    have hB_had5 : dB D ≤ ad5 := by have := hS0.1.2.2.1; omega
    have had3 := had3.ext hO
    have hF := hF.trans (hO.mono (fun _ _ z => z.elim))
    obtain ⟨o6, eo6, h⟩ := bind_step h
    refine r_cp (r_runV (rest := []) (As := [.ref ad5]) hC 1 (m_J10_compareTo ad3 ad5  o2 o4 o6 eo6) q1314 q1315 q1316 q51 q1317 (OA.recv hS had3 (C := RJ10) rfl) hd_J10_compareTo rfl ⟨Nat.le_of_ble_eq_true rfl, Nat.le_of_ble_eq_true rfl⟩ hS ⟨had3, had5⟩ hl.1 rfl (Nat.le_of_ble_eq_true rfl) dX1_orderOf_26 ⟨Nat.le_of_ble_eq_true rfl, Nat.le_of_ble_eq_true rfl⟩) ?_
    obtain ⟨o7, eo7, h⟩ := bind_step h
    refine r_cp (r_runS (rest := []) (As := [.int o6]) hC 1 (m_J26_signum   o6 o7 eo7) q1298 q1299 q68 q1300 hd_J26_signum rfl ⟨Nat.le_of_ble_eq_true rfl, Nat.le_of_ble_eq_true rfl⟩ hS trivial hl.1 rfl (Nat.le_of_ble_eq_true rfl) dX1_orderOf_29 ⟨Nat.le_of_ble_eq_true rfl, Nat.le_of_ble_eq_true rfl⟩) ?_
    obtain rfl := Option.some.inj h
    rw [eQ]
    exact r_iret hx hb hr hlk hS (Nat.le_of_ble_eq_true rfl) (Nat.le_of_ble_eq_true rfl) dX1_orderOf_32 ⟨_, rfl, rfl, hF⟩
  · have h := it_pos h c1
    refine lv_dload_n hx hb dX1_orderOf_5 rfl (lv_at hl 0 rfl) ?_
    refine lv_dload_n hx hb dX1_orderOf_6 rfl (lv_at hl 1 rfl) ?_
    obtain ⟨o8, eo8, h⟩ := bind_step h
    refine r_cp (r_runS (rest := []) (As := [.double x0, .double x1]) hC 2 (m_J10_compare   x0 x1 o8 eo8) q1294 q1295 q51 q1296 hd_J10_compare rfl ⟨Nat.le_of_ble_eq_true rfl, Nat.le_of_ble_eq_true rfl⟩ hS trivial hl.1 rfl (Nat.le_of_ble_eq_true rfl) dX1_orderOf_7 ⟨Nat.le_of_ble_eq_true rfl, Nat.le_of_ble_eq_true rfl⟩) ?_
    obtain ⟨o9, eo9, h⟩ := bind_step h
    refine r_cp (r_runS (rest := []) (As := [.int o8]) hC 1 (m_J26_signum   o8 o9 eo9) q1298 q1299 q68 q1300 hd_J26_signum rfl ⟨Nat.le_of_ble_eq_true rfl, Nat.le_of_ble_eq_true rfl⟩ hS trivial hl.1 rfl (Nat.le_of_ble_eq_true rfl) dX1_orderOf_10 ⟨Nat.le_of_ble_eq_true rfl, Nat.le_of_ble_eq_true rfl⟩) ?_
    obtain rfl := Option.some.inj h
    rw [eQ]
    exact r_iret hx hb hr hlk hS (Nat.le_of_ble_eq_true rfl) (Nat.le_of_ble_eq_true rfl) dX1_orderOf_13 ⟨_, rfl, rfl, hF⟩

abbrev R_X1_sizeOrder : Room := { frames := 5, cells := 2, slots := 2, locals := 117 }
noncomputable def f_X1_sizeOrder (x0r0c : Nat → UInt64) (x0r1c : Nat → UInt64) (x0r2c : Nat → Int32) (x0f3 : Int32) (x0f4 : Int32) (x0f5 : Int32) (x0f6 : Int32) (x1 : Int32) (x2 : Int32) : Option (Int32) :=
  Option.bind (f_X1_heightAt x0r0c x0r1c x0r2c x0f3 x0f4 x0f5 x0f6 x1) fun o1 =>
  Option.bind (f_X1_sizeOf o1) fun o2 =>
  Option.bind (f_X1_heightAt x0r0c x0r1c x0r2c x0f3 x0f4 x0f5 x0f6 x2) fun o3 =>
  Option.bind (f_X1_sizeOf o3) fun o4 =>
  Option.bind (f_X1_orderOf o2 o4 0) fun o5 =>
  some o5
theorem hd_X1_sizeOrder : Hd yX1_sizeOrder 2 := by unfold Hd; decide +kernel
set_option maxHeartbeats 4000000 in
set_option maxRecDepth 100000 in
theorem m_X1_sizeOrder {l : Launch} {D : DD} (x0 : Nat) (x0r0 : Nat) (x0r1 : Nat) (x0r2 : Nat)  (x0r0c : Nat → UInt64) (x0r1c : Nat → UInt64) (x0r2c : Nat → Int32) (x0f3 : Int32) (x0f4 : Int32) (x0f5 : Int32) (x0f6 : Int32) (x1 : Int32) (x2 : Int32) (r : Int32) (h : f_X1_sizeOrder x0r0c x0r1c x0r2c x0f3 x0f4 x0f5 x0f6 x1 x2 = some r) : MT l D yX1_sizeOrder cX1_sizeOrder 3 (some .int) 5 117 2 2 [.ref x0, .int x1, .int x2] (fun H => ON D 0 x0 [.ref x0r0, .ref x0r1, .ref x0r2, .int x0f3, .int x0f4, .int x0f5, .int x0f6] H ∧ aD D x0r0 8 x0r0c H ∧ aD D x0r1 8 x0r1c H ∧ aZ D x0r2 8 x0r2c H) (pI (fun H b H' => b = r ∧ Off (fun _ => False) H H')) := by
  refine MT.start (by decide +kernel) (Nat.le_of_ble_eq_true rfl) ?_
  intro p e s m below meth c ls hC hS hp hl
  obtain ⟨h_x0, h_x0r0, h_x0r1, h_x0r2⟩ := hp
  obtain ⟨hx, hb, hr, hlk, hml, hown, hts, hnm⟩ := id hC
  have hl : lv_has ls 3 [(0, .ref x0), (1, .int x1), (2, .int x2)] := hl
  unfold f_X1_sizeOrder at h
  have hS0 := hS
  obtain ⟨A, eA⟩ : ∃ A : Array Value, A = [.ref x0, .int x1, .int x2].toArray := ⟨_, rfl⟩
  rw [← eA] at hC hts ⊢
  obtain ⟨Q, eQ⟩ : ∃ Q : State → Prop, Q = MQ below (TQ D (pI (fun H b H' => b = r ∧ Off (fun _ => False) H H'))) A s 2 2 (fun q => dB D ≤ q) := ⟨_, rfl⟩
  have hF : Off (fun _ => False) s.heap s.heap := Off.rf
  show W p l e R_X1_sizeOrder s m A below meth c s.heap [] 0 0 _ _
  rw [← eQ]
  obtain ⟨H, eH⟩ : ∃ H : Heap, H = s.heap := ⟨_, rfl⟩
  obtain ⟨locs, eLc⟩ : ∃ L : List Loc, L = [] := ⟨_, rfl⟩
  have lt_h_x0 := h_x0.lt
  have lt_h_x0r0 := h_x0r0.lt
  have lt_h_x0r1 := h_x0r1.lt
  have lt_h_x0r2 := h_x0r2.lt
  rw [← eH, ← eLc]
  have hF : Off (fun _ => False) s.heap H := by rw [eH]; exact hF
  rw [← eH] at h_x0
  rw [← eH] at h_x0r0
  rw [← eH] at h_x0r1
  rw [← eH] at h_x0r2
  have hS : St D s H locs := by rw [eH, eLc]; exact hS
  refine lv_aload_n hx hb dX1_sizeOrder_0 rfl (lv_at hl 0 rfl) ?_
  refine lv_iload_n hx hb dX1_sizeOrder_1 rfl (lv_at hl 1 rfl) ?_
  obtain ⟨o1, eo1, h⟩ := bind_step h
  refine r_cp (r_runV (rest := []) (As := [.int x1]) hC 1 (m_X1_heightAt x0 x0r0 x0r1 x0r2  x0r0c x0r1c x0r2c x0f3 x0f4 x0f5 x0f6 x1 o1 eo1) q1202 q1204 qs13 q46 q1205 (OA.recv hS h_x0.OA (C := RX1) rfl) hd_X1_heightAt rfl ⟨Nat.le_of_ble_eq_true rfl, Nat.le_of_ble_eq_true rfl⟩ hS ⟨h_x0, h_x0r0, h_x0r1, h_x0r2⟩ hl.1 rfl (Nat.le_of_ble_eq_true rfl) dX1_sizeOrder_2 ⟨Nat.le_of_ble_eq_true rfl, Nat.le_of_ble_eq_true rfl⟩) ?_
  obtain ⟨o2, eo2, h⟩ := bind_step h
  refine r_cp (r_runS (rest := []) (As := [.double o1]) hC 1 (m_X1_sizeOf   o1 o2 eo2) q375 q376 q46 q377 hd_X1_sizeOf rfl ⟨Nat.le_of_ble_eq_true rfl, Nat.le_of_ble_eq_true rfl⟩ hS trivial hl.1 rfl (Nat.le_of_ble_eq_true rfl) dX1_sizeOrder_5 ⟨Nat.le_of_ble_eq_true rfl, Nat.le_of_ble_eq_true rfl⟩) ?_
  refine lv_aload_n hx hb dX1_sizeOrder_8 rfl (lv_at hl 0 rfl) ?_
  refine lv_iload_n hx hb dX1_sizeOrder_9 rfl (lv_at hl 2 rfl) ?_
  obtain ⟨o3, eo3, h⟩ := bind_step h
  refine r_cp (r_runV (rest := [.double o2]) (As := [.int x2]) hC 1 (m_X1_heightAt x0 x0r0 x0r1 x0r2  x0r0c x0r1c x0r2c x0f3 x0f4 x0f5 x0f6 x2 o3 eo3) q1202 q1204 qs13 q46 q1205 (OA.recv hS h_x0.OA (C := RX1) rfl) hd_X1_heightAt rfl ⟨Nat.le_of_ble_eq_true rfl, Nat.le_of_ble_eq_true rfl⟩ hS ⟨h_x0, h_x0r0, h_x0r1, h_x0r2⟩ hl.1 rfl (Nat.le_of_ble_eq_true rfl) dX1_sizeOrder_10 ⟨Nat.le_of_ble_eq_true rfl, Nat.le_of_ble_eq_true rfl⟩) ?_
  obtain ⟨o4, eo4, h⟩ := bind_step h
  refine r_cp (r_runS (rest := [.double o2]) (As := [.double o3]) hC 1 (m_X1_sizeOf   o3 o4 eo4) q375 q376 q46 q377 hd_X1_sizeOf rfl ⟨Nat.le_of_ble_eq_true rfl, Nat.le_of_ble_eq_true rfl⟩ hS trivial hl.1 rfl (Nat.le_of_ble_eq_true rfl) dX1_sizeOrder_13 ⟨Nat.le_of_ble_eq_true rfl, Nat.le_of_ble_eq_true rfl⟩) ?_
  refine lv_iconst (v := 0) hx hb dX1_sizeOrder_16 (by decide) ?_
  obtain ⟨o5, eo5, h⟩ := bind_step h
  refine r_ci (r_runS (rest := []) (As := [.double o2, .double o4, .int 0]) hC 3 (m_X1_orderOf   o2 o4 0 o5 eo5) q1291 q1292 q46 q1293 hd_X1_orderOf rfl ⟨Nat.le_of_ble_eq_true rfl, Nat.le_of_ble_eq_true rfl⟩ hS trivial hl.1 rfl (Nat.le_of_ble_eq_true rfl) dX1_sizeOrder_17 ⟨Nat.le_of_ble_eq_true rfl, Nat.le_of_ble_eq_true rfl⟩) hS (fun b H locs hp hS hz => ?_)
  obtain ⟨eb_, hO⟩ := hp
  rw [eb_]
  have h_x0 := h_x0.ext hO
  have h_x0r0 := h_x0r0.ext hO
  have h_x0r1 := h_x0r1.ext hO
  have h_x0r2 := h_x0r2.ext hO
  have hF := hF.trans (hO.mono (fun _ _ z => z.elim))
  obtain rfl := Option.some.inj h
  rw [eQ]
  exact r_iret hx hb hr hlk hS (Nat.le_of_ble_eq_true rfl) (Nat.le_of_ble_eq_true rfl) dX1_sizeOrder_20 ⟨_, rfl, rfl, hF⟩

abbrev R_X1_areOrdered : Room := { frames := 4, cells := 1, slots := 8, locals := 88 }
noncomputable def f_X1_areOrdered (x0r0c : Nat → UInt64) (x0r1c : Nat → UInt64) (x0r2c : Nat → Int32) (x0f3 : Int32) (x0f4 : Int32) (x0f5 : Int32) (x0f6 : Int32) : Option (Bool) :=
  lt (fun (f2 : Nat → Int32) (v3 : Int32) =>
  (show Option (Sum ((Nat → Int32) × Int32) ((Nat → Int32))) from (
  (if 8 ≤ v3 then
    some (.inr f2)
  else
    lt (fun (f33 : Nat → Int32) (v34 : Int32) =>
    (show Option (Sum ((Nat → Int32) × Int32) ((Nat → Int32))) from (
    (if 8 ≤ v34 then
      some (.inr f33)
    else
      gd 8 v34 fun i59 =>
      lti (f33 i59) fun v60 =>
      gd 8 v3 fun i61 =>
      ltd (x0r1c i61) fun v62 =>
      gd 8 v34 fun i63 =>
      ltd (x0r1c i63) fun v64 =>
      Option.bind (f_J10_compare v62 v64) fun o65 =>
      lt (fun (v66 : Bool) =>
      Option.bind (f_X1_bit v66) fun o68 =>
      lti (v60 + o68) fun v69 =>
      gd 8 v34 fun i70 =>
      lt (va_up f33 i70 v69) fun f71 =>
      lti (v34 + 1) fun v72 =>
      some (.inl (f71, v72))
      ) fun K67 =>
      (if 0 ≤ o65 then
        K67 false
      else
        K67 true
      )
    )
    ))
    ) fun F55 =>
    Option.bind (lp 9 (fun x => F55 x.1 x.2) (f2, 0)) fun w56 =>
    lti (v3 + 1) fun v74 =>
    some (.inl (w56, v74))
  )
  ))
  ) fun F29 =>
  Option.bind (lp 9 (fun x => F29 x.1 x.2) ((fun _ => 0), 0)) fun w30 =>
  lt (fun (v75 : Bool) (v76 : Int32) =>
  (show Option (Sum (Bool × Int32) (Bool)) from (
  (if 8 ≤ v76 then
    some (.inr v75)
  else
    lt (fun (v187 : Bool) (v188 : Int32) =>
    (show Option (Sum (Bool × Int32) (Bool)) from (
    (if 8 ≤ v188 then
      some (.inr v187)
    else
      gd 8 v76 fun i294 =>
      ltd (x0r1c i294) fun v295 =>
      gd 8 v188 fun i296 =>
      ltd (x0r1c i296) fun v297 =>
      Option.bind (f_J10_compare v295 v297) fun o298 =>
      gd 8 v188 fun i299 =>
      ltd (x0r1c i299) fun v300 =>
      gd 8 v76 fun i301 =>
      ltd (x0r1c i301) fun v302 =>
      Option.bind (f_J10_compare v300 v302) fun o303 =>
      lti (-o303) fun v304 =>
      lt (fun (v305 : Bool) =>
      lt (v187 && v305) fun v307 =>
      lt (fun (v308 : Bool) =>
      gd 8 v76 fun i310 =>
      lti (w30 i310) fun v311 =>
      gd 8 v188 fun i312 =>
      lti (w30 i312) fun v313 =>
      lt (fun (v314 : Bool) =>
      lt (fun (v316 : Bool) =>
      lt (v307 && v316) fun v318 =>
      lti (v188 + 1) fun v319 =>
      some (.inl (v318, v319))
      ) fun K317 =>
      (if (bI v308) = (bI v314) then
        K317 true
      else
        K317 false
      )
      ) fun K315 =>
      (if v313 ≤ v311 then
        K315 false
      else
        K315 true
      )
      ) fun K309 =>
      (if 0 ≤ o298 then
        K309 false
      else
        K309 true
      )
      ) fun K306 =>
      lt (fun (_u : Unit) =>
      K306 false
      ) fun K323 =>
      (if o298 = v304 then
        lt (fun (v325 : Bool) =>
        gd 8 v76 fun i327 =>
        ltd (x0r1c i327) fun v328 =>
        gd 8 v188 fun i329 =>
        ltd (x0r1c i329) fun v330 =>
        Option.bind (f_X1_isSame v328 v330) fun o331 =>
        (if (bI v325) = (bI o331) then
          K306 true
        else
          K323 ()
        )
        ) fun K326 =>
        (if o298 = 0 then
          K326 true
        else
          K326 false
        )
      else
        K323 ()
      )
    )
    ))
    ) fun F290 =>
    Option.bind (lp 9 (fun x => F290 x.1 x.2) (v75, 0)) fun w291 =>
    lti (v76 + 1) fun v334 =>
    some (.inl (w291, v334))
  )
  ))
  ) fun F183 =>
  Option.bind (lp 9 (fun x => F183 x.1 x.2) (true, 0)) fun w184 =>
  some w184
theorem hd_X1_areOrdered : Hd yX1_areOrdered 0 := by unfold Hd; decide +kernel
set_option maxHeartbeats 4000000 in
set_option maxRecDepth 100000 in
theorem m_X1_areOrdered {l : Launch} {D : DD} (x0 : Nat) (x0r0 : Nat) (x0r1 : Nat) (x0r2 : Nat)  (x0r0c : Nat → UInt64) (x0r1c : Nat → UInt64) (x0r2c : Nat → Int32) (x0f3 : Int32) (x0f4 : Int32) (x0f5 : Int32) (x0f6 : Int32) (r : Bool) (h : f_X1_areOrdered x0r0c x0r1c x0r2c x0f3 x0f4 x0f5 x0f6 = some r) : MT l D yX1_areOrdered cX1_areOrdered 6 (some .boolean) 4 88 1 8 [.ref x0] (fun H => ON D 0 x0 [.ref x0r0, .ref x0r1, .ref x0r2, .int x0f3, .int x0f4, .int x0f5, .int x0f6] H ∧ aD D x0r0 8 x0r0c H ∧ aD D x0r1 8 x0r1c H ∧ aZ D x0r2 8 x0r2c H) (pZ (fun H b H' => b = r ∧ Off (fun _ => False) H H')) := by
  refine MT.start (by decide +kernel) (Nat.le_of_ble_eq_true rfl) ?_
  intro p e s m below meth c ls hC hS hp hl
  obtain ⟨h_x0, h_x0r0, h_x0r1, h_x0r2⟩ := hp
  obtain ⟨hx, hb, hr, hlk, hml, hown, hts, hnm⟩ := id hC
  have hl : lv_has ls 6 [(0, .ref x0)] := hl
  unfold f_X1_areOrdered at h
  have hS0 := hS
  obtain ⟨A, eA⟩ : ∃ A : Array Value, A = [.ref x0].toArray := ⟨_, rfl⟩
  rw [← eA] at hC hts ⊢
  obtain ⟨Q, eQ⟩ : ∃ Q : State → Prop, Q = MQ below (TQ D (pZ (fun H b H' => b = r ∧ Off (fun _ => False) H H'))) A s 1 8 (fun q => dB D ≤ q) := ⟨_, rfl⟩
  have hF : Off (fun _ => False) s.heap s.heap := Off.rf
  show W p l e R_X1_areOrdered s m A below meth c s.heap [] 0 0 _ _
  rw [← eQ]
  obtain ⟨H, eH⟩ : ∃ H : Heap, H = s.heap := ⟨_, rfl⟩
  obtain ⟨locs, eLc⟩ : ∃ L : List Loc, L = [] := ⟨_, rfl⟩
  have lt_h_x0 := h_x0.lt
  have lt_h_x0r0 := h_x0r0.lt
  have lt_h_x0r1 := h_x0r1.lt
  have lt_h_x0r2 := h_x0r2.lt
  rw [← eH, ← eLc]
  have hF : Off (fun _ => False) s.heap H := by rw [eH]; exact hF
  rw [← eH] at h_x0
  rw [← eH] at h_x0r0
  rw [← eH] at h_x0r1
  rw [← eH] at h_x0r2
  have hS : St D s H locs := by rw [eH, eLc]; exact hS
  refine lv_bipush (v := 8) hx hb dX1_areOrdered_0 (by decide) ?_
  refine r_newa hx hb hts hS (ty := .int) rfl q453 8 rfl (by decide) (by decide) (Nat.le_of_ble_eq_true rfl) (Nat.le_of_ble_eq_true rfl) dX1_areOrdered_2 (fun ad1 H eq_ad1 hS hE had1 z_ad1 hB_had1 => ?_)
  have had1 : aI D ad1 8 (fun _ => 0) H := had1
  have gad1 : s.heap.size ≤ ad1 := by have := hF.1; omega
  have ne_h_x0_had1 : x0 ≠ ad1 := by have := h_x0.lt; omega
  have h_x0 := h_x0.ext hE
  have ne_h_x0r0_had1 : x0r0 ≠ ad1 := by have := h_x0r0.lt; omega
  have h_x0r0 := h_x0r0.ext hE
  have ne_h_x0r1_had1 : x0r1 ≠ ad1 := by have := h_x0r1.lt; omega
  have h_x0r1 := h_x0r1.ext hE
  have ne_h_x0r2_had1 : x0r2 ≠ ad1 := by have := h_x0r2.lt; omega
  have h_x0r2 := h_x0r2.ext hE
  have hF := hF.trans (hE.mono (fun _ _ z => z.elim))
  refine lv_astore_n (lv' := [(1, .ref ad1), (0, .ref x0)]) hx hb dX1_areOrdered_4 rfl hl (by decide) rfl (fun ls hl => ?_)
  refine lv_iconst (v := 0) hx hb dX1_areOrdered_5 (by decide) ?_
  refine lv_istore_n (lv' := [(2, .int 0), (1, .ref ad1), (0, .ref x0)]) hx hb dX1_areOrdered_6 rfl hl (by decide) rfl (fun ls hl => ?_)
  obtain ⟨F29, eF29, h⟩ := lt_step h
  obtain ⟨w30, ew30, h⟩ := bind_step h
  have HL : ∀ (n : Nat) (f2 : Nat → Int32) (v3 : Int32) (w30 : (Nat → Int32)) (hk0 : lp n (fun x => F29 x.1 x.2) (f2, v3) = some w30)  (H : Heap) (locs : List Loc) (hS : St D s H locs) (hF : Off (fun _ => False) s.heap H) (h_x0 : ON D 0 x0 [.ref x0r0, .ref x0r1, .ref x0r2, .int x0f3, .int x0f4, .int x0f5, .int x0f6] H) (h_x0r0 : aD D x0r0 8 x0r0c H) (h_x0r1 : aD D x0r1 8 x0r1c H) (h_x0r2 : aZ D x0r2 8 x0r2c H) (had1 : aI D ad1 8 f2 H) (ls : Array Slot) (hl : lv_has ls 6 [(0, .ref x0), (1, .ref ad1), (2, .int v3)]) (K65 : ∀ (H : Heap) (locs : List Loc) (hS : St D s H locs) (hF : Off (fun _ => False) s.heap H) (h_x0 : ON D 0 x0 [.ref x0r0, .ref x0r1, .ref x0r2, .int x0f3, .int x0f4, .int x0f5, .int x0f6] H) (h_x0r0 : aD D x0r0 8 x0r0c H) (h_x0r1 : aD D x0r1 8 x0r1c H) (h_x0r2 : aZ D x0r2 8 x0r2c H) (had1 : aI D ad1 8 w30 H) (ls : Array Slot) (hl : lv_has ls 6 [(0, .ref x0), (1, .ref ad1)]), W p l e R_X1_areOrdered s m A below meth c H locs 1 8 Q (F0 m 65 ls [])), W p l e R_X1_areOrdered s m A below meth c H locs 1 8 Q (F0 m 7 ls []) := by
    intro n
    induction n with
    | zero => intro f2 v3 w30 hk0  H locs hS hF h_x0 h_x0r0 h_x0r1 h_x0r2 had1 ls hl K65; exact lp_zero hk0
    | succ n ih =>
      intro f2 v3 w30 hk0  H locs hS hF h_x0 h_x0r0 h_x0r1 h_x0r2 had1 ls hl K65
      obtain ⟨z31, hz, hk⟩ := lp_step hk0
      have h := (congrFun (congrFun (eF29) f2) v3).symm.trans hz
      refine lv_iload_n hx hb dX1_areOrdered_7 rfl (lv_at hl 2 rfl) ?_
      refine lv_bipush (v := 8) hx hb dX1_areOrdered_8 (by decide) ?_
      refine lv_icmp_ge (tgt := 65) hx hb dX1_areOrdered_10 (by decide) (fun c32 => ?_) (fun c32 => ?_)
      · have h := it_pos h c32
        obtain rfl := Option.some.inj h
        obtain rfl := id hk
        exact K65 H locs hS hF h_x0 h_x0r0 h_x0r1 h_x0r2 had1 ls (lv_sub hl [0, 1] rfl)
      · have h := it_neg h c32
        refine lv_iconst (v := 0) hx hb dX1_areOrdered_13 (by decide) ?_
        refine lv_istore_n (lv' := [(3, .int 0), (0, .ref x0), (1, .ref ad1), (2, .int v3)]) hx hb dX1_areOrdered_14 rfl hl (by decide) rfl (fun ls hl => ?_)
        obtain ⟨F55, eF55, h⟩ := lt_step h
        obtain ⟨w56, ew56, h⟩ := bind_step h
        have HL : ∀ (n : Nat) (f33 : Nat → Int32) (v34 : Int32) (w56 : (Nat → Int32)) (hk0 : lp n (fun x => F55 x.1 x.2) (f33, v34) = some w56)  (H : Heap) (locs : List Loc) (hS : St D s H locs) (hF : Off (fun _ => False) s.heap H) (h_x0 : ON D 0 x0 [.ref x0r0, .ref x0r1, .ref x0r2, .int x0f3, .int x0f4, .int x0f5, .int x0f6] H) (h_x0r0 : aD D x0r0 8 x0r0c H) (h_x0r1 : aD D x0r1 8 x0r1c H) (h_x0r2 : aZ D x0r2 8 x0r2c H) (had1 : aI D ad1 8 f33 H) (ls : Array Slot) (hl : lv_has ls 6 [(0, .ref x0), (1, .ref ad1), (2, .int v3), (3, .int v34)]) (K59 : ∀ (H : Heap) (locs : List Loc) (hS : St D s H locs) (hF : Off (fun _ => False) s.heap H) (h_x0 : ON D 0 x0 [.ref x0r0, .ref x0r1, .ref x0r2, .int x0f3, .int x0f4, .int x0f5, .int x0f6] H) (h_x0r0 : aD D x0r0 8 x0r0c H) (h_x0r1 : aD D x0r1 8 x0r1c H) (h_x0r2 : aZ D x0r2 8 x0r2c H) (had1 : aI D ad1 8 w56 H) (ls : Array Slot) (hl : lv_has ls 6 [(0, .ref x0), (1, .ref ad1), (2, .int v3)]), W p l e R_X1_areOrdered s m A below meth c H locs 1 8 Q (F0 m 59 ls [])), W p l e R_X1_areOrdered s m A below meth c H locs 1 8 Q (F0 m 15 ls []) := by
          intro n
          induction n with
          | zero => intro f33 v34 w56 hk0  H locs hS hF h_x0 h_x0r0 h_x0r1 h_x0r2 had1 ls hl K59; exact lp_zero hk0
          | succ n ih =>
            intro f33 v34 w56 hk0  H locs hS hF h_x0 h_x0r0 h_x0r1 h_x0r2 had1 ls hl K59
            obtain ⟨z57, hz, hk⟩ := lp_step hk0
            have h := (congrFun (congrFun (eF55) f33) v34).symm.trans hz
            refine lv_iload_n hx hb dX1_areOrdered_15 rfl (lv_at hl 3 rfl) ?_
            refine lv_bipush (v := 8) hx hb dX1_areOrdered_16 (by decide) ?_
            refine lv_icmp_ge (tgt := 59) hx hb dX1_areOrdered_18 (by decide) (fun c58 => ?_) (fun c58 => ?_)
            · have h := it_pos h c58
              obtain rfl := Option.some.inj h
              obtain rfl := id hk
              exact K59 H locs hS hF h_x0 h_x0r0 h_x0r1 h_x0r2 had1 ls (lv_sub hl [0, 1, 2] rfl)
            · have h := it_neg h c58
              refine lv_aload_n hx hb dX1_areOrdered_21 rfl (lv_at hl 1 rfl) ?_
              refine lv_iload_n hx hb dX1_areOrdered_22 rfl (lv_at hl 3 rfl) ?_
              refine lv_dup2_11 hx hb dX1_areOrdered_23 rfl rfl ?_
              obtain ⟨i59, xi59, h⟩ := gd_step (by decide) h
              refine r_iald hx hb hS had1 i59 xi59 dX1_areOrdered_24 ?_
              obtain ⟨v60, ev60, h⟩ := lti_step h
              refine r_nmI ev60 ?_
              refine lv_aload_n hx hb dX1_areOrdered_25 rfl (lv_at hl 0 rfl) ?_
              refine r_get hx hb hts hown hS h_x0.OA rfl in_X1 1 (by decide) q915 rfl (v := .ref x0r1) rfl dX1_areOrdered_26 ?_
              refine lv_iload_n hx hb dX1_areOrdered_29 rfl (lv_at hl 2 rfl) ?_
              obtain ⟨i61, xi61, h⟩ := gd_step (by decide) h
              refine r_dald hx hb hS h_x0r1 i61 xi61 dX1_areOrdered_30 ?_
              obtain ⟨v62, ev62, h⟩ := ltd_step h
              refine r_nmD ev62 ?_
              refine lv_aload_n hx hb dX1_areOrdered_31 rfl (lv_at hl 0 rfl) ?_
              refine r_get hx hb hts hown hS h_x0.OA rfl in_X1 1 (by decide) q915 rfl (v := .ref x0r1) rfl dX1_areOrdered_32 ?_
              refine lv_iload_n hx hb dX1_areOrdered_35 rfl (lv_at hl 3 rfl) ?_
              obtain ⟨i63, xi63, h⟩ := gd_step (by decide) h
              refine r_dald hx hb hS h_x0r1 i63 xi63 dX1_areOrdered_36 ?_
              obtain ⟨v64, ev64, h⟩ := ltd_step h
              refine r_nmD ev64 ?_
              obtain ⟨o65, eo65, h⟩ := bind_step h
              refine r_cp (r_runS (rest := [.int v60, .int v34, .ref ad1]) (As := [.double v62, .double v64]) hC 2 (m_J10_compare   v62 v64 o65 eo65) q1294 q1295 q51 q1296 hd_J10_compare rfl ⟨Nat.le_of_ble_eq_true rfl, Nat.le_of_ble_eq_true rfl⟩ hS trivial hl.1 rfl (Nat.le_of_ble_eq_true rfl) dX1_areOrdered_37 ⟨Nat.le_of_ble_eq_true rfl, Nat.le_of_ble_eq_true rfl⟩) ?_
              obtain ⟨K67, eK67, h⟩ := lt_step h
              have HK67 : ∀ (v66 : Bool) (h : K67 v66 = some z57) (H : Heap) (locs : List Loc) (hS : St D s H locs) (hF : Off (fun _ => False) s.heap H) (h_x0 : ON D 0 x0 [.ref x0r0, .ref x0r1, .ref x0r2, .int x0f3, .int x0f4, .int x0f5, .int x0f6] H) (h_x0r0 : aD D x0r0 8 x0r0c H) (h_x0r1 : aD D x0r1 8 x0r1c H) (h_x0r2 : aZ D x0r2 8 x0r2c H) (had1 : aI D ad1 8 f33 H) (ls : Array Slot) (hl : lv_has ls 6 [(0, .ref x0), (1, .ref ad1), (2, .int v3), (3, .int v34)]), W p l e R_X1_areOrdered s m A below meth c H locs 1 8 Q (F0 m 48 ls [.int (bI v66), .int v60, .int v34, .ref ad1]) := by
                intro v66 h H locs hS hF h_x0 h_x0r0 h_x0r1 h_x0r2 had1 ls hl
                subst eK67
                obtain ⟨o68, eo68, h⟩ := bind_step h
                refine r_cp (r_runS (rest := [.int v60, .int v34, .ref ad1]) (As := [.int (bI v66)]) hC 1 (m_X1_bit   v66 o68 eo68) q389 q390 q46 q391 hd_X1_bit rfl ⟨Nat.le_of_ble_eq_true rfl, Nat.le_of_ble_eq_true rfl⟩ hS trivial hl.1 rfl (Nat.le_of_ble_eq_true rfl) dX1_areOrdered_48 ⟨Nat.le_of_ble_eq_true rfl, Nat.le_of_ble_eq_true rfl⟩) ?_
                obtain ⟨v69, ev69, h⟩ := lti_step h
                refine r_iadd hx hb ev69 dX1_areOrdered_51 ?_
                obtain ⟨i70, xi70, h⟩ := gd_step (by decide) h
                obtain ⟨f71, ef71, h⟩ := lt_step h
                refine r_iast hx hb hS had1 hB_had1 i70 xi70 dX1_areOrdered_52 (fun H locs hS hO had1 => ?_)
                have had1 : aI D ad1 8 f71 H := by rw [ef71]; exact had1
                have h_x0 := h_x0.off hO ne_h_x0_had1
                have h_x0r0 := h_x0r0.off hO ne_h_x0r0_had1
                have h_x0r1 := h_x0r1.off hO ne_h_x0r1_had1
                have h_x0r2 := h_x0r2.off hO ne_h_x0r2_had1
                have hF := hF.fresh hO (fun a ha z => absurd (z ▸ ha) (Nat.not_lt.mpr gad1))
                obtain ⟨v72, ev72, h⟩ := lti_step h
                refine lv_iinc (v := v72) (lv' := [(3, .int v72), (0, .ref x0), (1, .ref ad1), (2, .int v3)]) hx hb dX1_areOrdered_53 hl (k := 3) rfl (by rw [ev72]; rfl) (by decide) rfl (fun ls hl => ?_)
                refine lv_goto (tgt := 15) hx hb dX1_areOrdered_56 (by decide) ?_
                obtain rfl := Option.some.inj h
                exact ih f71 v72 w56 hk  H locs hS hF h_x0 h_x0r0 h_x0r1 h_x0r2 had1 ls (lv_sub hl [1, 2, 3, 0] rfl) K59
              clear eK67
              refine lv_if_ge (tgt := 47) hx hb dX1_areOrdered_40 (by decide) (fun c73 => ?_) (fun c73 => ?_)
              · have h := it_pos h c73
                refine lv_iconst (v := 0) hx hb dX1_areOrdered_47 (by decide) ?_
                exact HK67 false h H locs hS hF h_x0 h_x0r0 h_x0r1 h_x0r2 had1 ls (lv_sub hl [0, 1, 2, 3] rfl)
              · have h := it_neg h c73
                refine lv_iconst (v := 1) hx hb dX1_areOrdered_43 (by decide) ?_
                refine lv_goto (tgt := 48) hx hb dX1_areOrdered_44 (by decide) ?_
                exact HK67 true h H locs hS hF h_x0 h_x0r0 h_x0r1 h_x0r2 had1 ls (lv_sub hl [0, 1, 2, 3] rfl)
        clear eF55
        refine HL 9 f2 0 w56 ew56  H locs hS hF h_x0 h_x0r0 h_x0r1 h_x0r2 had1 ls (lv_sub hl [1, 2, 3, 0] rfl) (fun  H locs hS hF h_x0 h_x0r0 h_x0r1 h_x0r2 had1 ls hl => ?_)
        obtain ⟨v74, ev74, h⟩ := lti_step h
        refine lv_iinc (v := v74) (lv' := [(2, .int v74), (0, .ref x0), (1, .ref ad1)]) hx hb dX1_areOrdered_59 hl (k := 2) rfl (by rw [ev74]; rfl) (by decide) rfl (fun ls hl => ?_)
        refine lv_goto (tgt := 7) hx hb dX1_areOrdered_62 (by decide) ?_
        obtain rfl := Option.some.inj h
        exact ih w56 v74 w30 hk  H locs hS hF h_x0 h_x0r0 h_x0r1 h_x0r2 had1 ls (lv_sub hl [1, 2, 0] rfl) K65
  clear eF29
  refine HL 9 (fun _ => 0) 0 w30 ew30  H locs hS hF h_x0 h_x0r0 h_x0r1 h_x0r2 had1 ls (lv_sub hl [2, 1, 0] rfl) (fun  H locs hS hF h_x0 h_x0r0 h_x0r1 h_x0r2 had1 ls hl => ?_)
  refine lv_iconst (v := 1) hx hb dX1_areOrdered_65 (by decide) ?_
  refine lv_istore_n (lv' := [(2, .int 1), (0, .ref x0), (1, .ref ad1)]) hx hb dX1_areOrdered_66 rfl hl (by decide) rfl (fun ls hl => ?_)
  refine lv_iconst (v := 0) hx hb dX1_areOrdered_67 (by decide) ?_
  refine lv_istore_n (lv' := [(3, .int 0), (2, .int 1), (0, .ref x0), (1, .ref ad1)]) hx hb dX1_areOrdered_68 rfl hl (by decide) rfl (fun ls hl => ?_)
  obtain ⟨F183, eF183, h⟩ := lt_step h
  obtain ⟨w184, ew184, h⟩ := bind_step h
  have HL : ∀ (n : Nat) (v75 : Bool) (v76 : Int32) (w184 : Bool) (hk0 : lp n (fun x => F183 x.1 x.2) (v75, v76) = some w184)  (H : Heap) (locs : List Loc) (hS : St D s H locs) (hF : Off (fun _ => False) s.heap H) (h_x0 : ON D 0 x0 [.ref x0r0, .ref x0r1, .ref x0r2, .int x0f3, .int x0f4, .int x0f5, .int x0f6] H) (h_x0r0 : aD D x0r0 8 x0r0c H) (h_x0r1 : aD D x0r1 8 x0r1c H) (h_x0r2 : aZ D x0r2 8 x0r2c H) (had1 : aI D ad1 8 w30 H) (ls : Array Slot) (hl : lv_has ls 6 [(0, .ref x0), (1, .ref ad1), (2, .int (bI v75)), (3, .int v76)]) (K210 : ∀ (H : Heap) (locs : List Loc) (hS : St D s H locs) (hF : Off (fun _ => False) s.heap H) (h_x0 : ON D 0 x0 [.ref x0r0, .ref x0r1, .ref x0r2, .int x0f3, .int x0f4, .int x0f5, .int x0f6] H) (h_x0r0 : aD D x0r0 8 x0r0c H) (h_x0r1 : aD D x0r1 8 x0r1c H) (h_x0r2 : aZ D x0r2 8 x0r2c H) (ls : Array Slot) (hl : lv_has ls 6 [(2, .int (bI w184))]), W p l e R_X1_areOrdered s m A below meth c H locs 1 8 Q (F0 m 210 ls [])), W p l e R_X1_areOrdered s m A below meth c H locs 1 8 Q (F0 m 69 ls []) := by
    intro n
    induction n with
    | zero => intro v75 v76 w184 hk0  H locs hS hF h_x0 h_x0r0 h_x0r1 h_x0r2 had1 ls hl K210; exact lp_zero hk0
    | succ n ih =>
      intro v75 v76 w184 hk0  H locs hS hF h_x0 h_x0r0 h_x0r1 h_x0r2 had1 ls hl K210
      obtain ⟨z185, hz, hk⟩ := lp_step hk0
      have h := (congrFun (congrFun (eF183) v75) v76).symm.trans hz
      refine lv_iload_n hx hb dX1_areOrdered_69 rfl (lv_at hl 3 rfl) ?_
      refine lv_bipush (v := 8) hx hb dX1_areOrdered_70 (by decide) ?_
      refine lv_icmp_ge (tgt := 210) hx hb dX1_areOrdered_72 (by decide) (fun c186 => ?_) (fun c186 => ?_)
      · have h := it_pos h c186
        obtain rfl := Option.some.inj h
        obtain rfl := id hk
        exact K210 H locs hS hF h_x0 h_x0r0 h_x0r1 h_x0r2 ls (lv_sub hl [2] rfl)
      · have h := it_neg h c186
        refine lv_iconst (v := 0) hx hb dX1_areOrdered_75 (by decide) ?_
        refine lv_istore (lv' := [(4, .int 0), (0, .ref x0), (1, .ref ad1), (2, .int (bI v75)), (3, .int v76)]) hx hb dX1_areOrdered_76 hl (by decide) rfl (fun ls hl => ?_)
        obtain ⟨F290, eF290, h⟩ := lt_step h
        obtain ⟨w291, ew291, h⟩ := bind_step h
        have HL : ∀ (n : Nat) (v187 : Bool) (v188 : Int32) (w291 : Bool) (hk0 : lp n (fun x => F290 x.1 x.2) (v187, v188) = some w291)  (H : Heap) (locs : List Loc) (hS : St D s H locs) (hF : Off (fun _ => False) s.heap H) (h_x0 : ON D 0 x0 [.ref x0r0, .ref x0r1, .ref x0r2, .int x0f3, .int x0f4, .int x0f5, .int x0f6] H) (h_x0r0 : aD D x0r0 8 x0r0c H) (h_x0r1 : aD D x0r1 8 x0r1c H) (h_x0r2 : aZ D x0r2 8 x0r2c H) (had1 : aI D ad1 8 w30 H) (ls : Array Slot) (hl : lv_has ls 6 [(0, .ref x0), (1, .ref ad1), (2, .int (bI v187)), (3, .int v76), (4, .int v188)]) (K204 : ∀ (H : Heap) (locs : List Loc) (hS : St D s H locs) (hF : Off (fun _ => False) s.heap H) (h_x0 : ON D 0 x0 [.ref x0r0, .ref x0r1, .ref x0r2, .int x0f3, .int x0f4, .int x0f5, .int x0f6] H) (h_x0r0 : aD D x0r0 8 x0r0c H) (h_x0r1 : aD D x0r1 8 x0r1c H) (h_x0r2 : aZ D x0r2 8 x0r2c H) (had1 : aI D ad1 8 w30 H) (ls : Array Slot) (hl : lv_has ls 6 [(0, .ref x0), (1, .ref ad1), (2, .int (bI w291)), (3, .int v76)]), W p l e R_X1_areOrdered s m A below meth c H locs 1 8 Q (F0 m 204 ls [])), W p l e R_X1_areOrdered s m A below meth c H locs 1 8 Q (F0 m 78 ls []) := by
          intro n
          induction n with
          | zero => intro v187 v188 w291 hk0  H locs hS hF h_x0 h_x0r0 h_x0r1 h_x0r2 had1 ls hl K204; exact lp_zero hk0
          | succ n ih =>
            intro v187 v188 w291 hk0  H locs hS hF h_x0 h_x0r0 h_x0r1 h_x0r2 had1 ls hl K204
            obtain ⟨z292, hz, hk⟩ := lp_step hk0
            have h := (congrFun (congrFun (eF290) v187) v188).symm.trans hz
            refine lv_iload hx hb dX1_areOrdered_78 (lv_at hl 4 rfl) ?_
            refine lv_bipush (v := 8) hx hb dX1_areOrdered_80 (by decide) ?_
            refine lv_icmp_ge (tgt := 204) hx hb dX1_areOrdered_82 (by decide) (fun c293 => ?_) (fun c293 => ?_)
            · have h := it_pos h c293
              obtain rfl := Option.some.inj h
              obtain rfl := id hk
              exact K204 H locs hS hF h_x0 h_x0r0 h_x0r1 h_x0r2 had1 ls (lv_sub hl [0, 1, 2, 3] rfl)
            · have h := it_neg h c293
              refine lv_aload_n hx hb dX1_areOrdered_85 rfl (lv_at hl 0 rfl) ?_
              refine r_get hx hb hts hown hS h_x0.OA rfl in_X1 1 (by decide) q915 rfl (v := .ref x0r1) rfl dX1_areOrdered_86 ?_
              refine lv_iload_n hx hb dX1_areOrdered_89 rfl (lv_at hl 3 rfl) ?_
              obtain ⟨i294, xi294, h⟩ := gd_step (by decide) h
              refine r_dald hx hb hS h_x0r1 i294 xi294 dX1_areOrdered_90 ?_
              obtain ⟨v295, ev295, h⟩ := ltd_step h
              refine r_nmD ev295 ?_
              refine lv_aload_n hx hb dX1_areOrdered_91 rfl (lv_at hl 0 rfl) ?_
              refine r_get hx hb hts hown hS h_x0.OA rfl in_X1 1 (by decide) q915 rfl (v := .ref x0r1) rfl dX1_areOrdered_92 ?_
              refine lv_iload hx hb dX1_areOrdered_95 (lv_at hl 4 rfl) ?_
              obtain ⟨i296, xi296, h⟩ := gd_step (by decide) h
              refine r_dald hx hb hS h_x0r1 i296 xi296 dX1_areOrdered_97 ?_
              obtain ⟨v297, ev297, h⟩ := ltd_step h
              refine r_nmD ev297 ?_
              obtain ⟨o298, eo298, h⟩ := bind_step h
              refine r_cp (r_runS (rest := []) (As := [.double v295, .double v297]) hC 2 (m_J10_compare   v295 v297 o298 eo298) q1294 q1295 q51 q1296 hd_J10_compare rfl ⟨Nat.le_of_ble_eq_true rfl, Nat.le_of_ble_eq_true rfl⟩ hS trivial hl.1 rfl (Nat.le_of_ble_eq_true rfl) dX1_areOrdered_98 ⟨Nat.le_of_ble_eq_true rfl, Nat.le_of_ble_eq_true rfl⟩) ?_
              refine lv_istore (lv' := [(5, .int o298), (0, .ref x0), (1, .ref ad1), (2, .int (bI v187)), (3, .int v76), (4, .int v188)]) hx hb dX1_areOrdered_101 hl (by decide) rfl (fun ls hl => ?_)
              refine lv_iload_n hx hb dX1_areOrdered_103 rfl (lv_at hl 3 rfl) ?_
              refine lv_iload hx hb dX1_areOrdered_104 (lv_at hl 0 rfl) ?_
              refine lv_aload_n hx hb dX1_areOrdered_106 rfl (lv_at hl 1 rfl) ?_
              refine r_get hx hb hts hown hS h_x0.OA rfl in_X1 1 (by decide) q915 rfl (v := .ref x0r1) rfl dX1_areOrdered_107 ?_
              refine lv_iload hx hb dX1_areOrdered_110 (lv_at hl 5 rfl) ?_
              obtain ⟨i299, xi299, h⟩ := gd_step (by decide) h
              refine r_dald hx hb hS h_x0r1 i299 xi299 dX1_areOrdered_112 ?_
              obtain ⟨v300, ev300, h⟩ := ltd_step h
              refine r_nmD ev300 ?_
              refine lv_aload_n hx hb dX1_areOrdered_113 rfl (lv_at hl 1 rfl) ?_
              refine r_get hx hb hts hown hS h_x0.OA rfl in_X1 1 (by decide) q915 rfl (v := .ref x0r1) rfl dX1_areOrdered_114 ?_
              refine lv_iload_n hx hb dX1_areOrdered_117 rfl (lv_at hl 4 rfl) ?_
              obtain ⟨i301, xi301, h⟩ := gd_step (by decide) h
              refine r_dald hx hb hS h_x0r1 i301 xi301 dX1_areOrdered_118 ?_
              obtain ⟨v302, ev302, h⟩ := ltd_step h
              refine r_nmD ev302 ?_
              obtain ⟨o303, eo303, h⟩ := bind_step h
              refine r_cp (r_runS (rest := [.int o298, .int (bI v187)]) (As := [.double v300, .double v302]) hC 2 (m_J10_compare   v300 v302 o303 eo303) q1294 q1295 q51 q1296 hd_J10_compare rfl ⟨Nat.le_of_ble_eq_true rfl, Nat.le_of_ble_eq_true rfl⟩ hS trivial hl.1 rfl (Nat.le_of_ble_eq_true rfl) dX1_areOrdered_119 ⟨Nat.le_of_ble_eq_true rfl, Nat.le_of_ble_eq_true rfl⟩) ?_
              obtain ⟨v304, ev304, h⟩ := lti_step h
              refine r_ineg hx hb ev304 dX1_areOrdered_122 ?_
              obtain ⟨K306, eK306, h⟩ := lt_step h
              have HK306 : ∀ (v305 : Bool) (h : K306 v305 = some z292) (H : Heap) (locs : List Loc) (hS : St D s H locs) (hF : Off (fun _ => False) s.heap H) (h_x0 : ON D 0 x0 [.ref x0r0, .ref x0r1, .ref x0r2, .int x0f3, .int x0f4, .int x0f5, .int x0f6] H) (h_x0r0 : aD D x0r0 8 x0r0c H) (h_x0r1 : aD D x0r1 8 x0r1c H) (h_x0r2 : aZ D x0r2 8 x0r2c H) (had1 : aI D ad1 8 w30 H) (ls : Array Slot) (hl : lv_has ls 6 [(0, .ref x0), (1, .ref ad1), (3, .int v76), (4, .int v188), (5, .int o298)]), W p l e R_X1_areOrdered s m A below meth c H locs 1 8 Q (F0 m 160 ls [.int (bI v305), .int (bI v187)]) := by
                intro v305 h H locs hS hF h_x0 h_x0r0 h_x0r1 h_x0r2 had1 ls hl
                subst eK306
                obtain ⟨v307, ev307, h⟩ := lt_step h
                refine r_iandB hx hb ev307 dX1_areOrdered_160 ?_
                refine lv_istore_n (lv' := [(2, .int (bI v307)), (0, .ref x0), (1, .ref ad1), (3, .int v76), (4, .int v188), (5, .int o298)]) hx hb dX1_areOrdered_161 rfl hl (by decide) rfl (fun ls hl => ?_)
                refine lv_iload_n hx hb dX1_areOrdered_162 rfl (lv_at hl 0 rfl) ?_
                refine lv_iload hx hb dX1_areOrdered_163 (lv_at hl 5 rfl) ?_
                obtain ⟨K309, eK309, h⟩ := lt_step h
                have HK309 : ∀ (v308 : Bool) (h : K309 v308 = some z292) (H : Heap) (locs : List Loc) (hS : St D s H locs) (hF : Off (fun _ => False) s.heap H) (h_x0 : ON D 0 x0 [.ref x0r0, .ref x0r1, .ref x0r2, .int x0f3, .int x0f4, .int x0f5, .int x0f6] H) (h_x0r0 : aD D x0r0 8 x0r0c H) (h_x0r1 : aD D x0r1 8 x0r1c H) (h_x0r2 : aZ D x0r2 8 x0r2c H) (had1 : aI D ad1 8 w30 H) (ls : Array Slot) (hl : lv_has ls 6 [(0, .ref x0), (1, .ref ad1), (3, .int v76), (4, .int v188)]), W p l e R_X1_areOrdered s m A below meth c H locs 1 8 Q (F0 m 173 ls [.int (bI v308), .int (bI v307)]) := by
                  intro v308 h H locs hS hF h_x0 h_x0r0 h_x0r1 h_x0r2 had1 ls hl
                  subst eK309
                  refine lv_aload_n hx hb dX1_areOrdered_173 rfl (lv_at hl 1 rfl) ?_
                  refine lv_iload_n hx hb dX1_areOrdered_174 rfl (lv_at hl 2 rfl) ?_
                  obtain ⟨i310, xi310, h⟩ := gd_step (by decide) h
                  refine r_iald hx hb hS had1 i310 xi310 dX1_areOrdered_175 ?_
                  obtain ⟨v311, ev311, h⟩ := lti_step h
                  refine r_nmI ev311 ?_
                  refine lv_aload_n hx hb dX1_areOrdered_176 rfl (lv_at hl 1 rfl) ?_
                  refine lv_iload hx hb dX1_areOrdered_177 (lv_at hl 3 rfl) ?_
                  obtain ⟨i312, xi312, h⟩ := gd_step (by decide) h
                  refine r_iald hx hb hS had1 i312 xi312 dX1_areOrdered_179 ?_
                  obtain ⟨v313, ev313, h⟩ := lti_step h
                  refine r_nmI ev313 ?_
                  obtain ⟨K315, eK315, h⟩ := lt_step h
                  have HK315 : ∀ (v314 : Bool) (h : K315 v314 = some z292) (H : Heap) (locs : List Loc) (hS : St D s H locs) (hF : Off (fun _ => False) s.heap H) (h_x0 : ON D 0 x0 [.ref x0r0, .ref x0r1, .ref x0r2, .int x0f3, .int x0f4, .int x0f5, .int x0f6] H) (h_x0r0 : aD D x0r0 8 x0r0c H) (h_x0r1 : aD D x0r1 8 x0r1c H) (h_x0r2 : aZ D x0r2 8 x0r2c H) (had1 : aI D ad1 8 w30 H) (ls : Array Slot) (hl : lv_has ls 6 [(0, .ref x0), (1, .ref ad1), (3, .int v76), (4, .int v188)]), W p l e R_X1_areOrdered s m A below meth c H locs 1 8 Q (F0 m 188 ls [.int (bI v314), .int (bI v308), .int (bI v307)]) := by
                    intro v314 h H locs hS hF h_x0 h_x0r0 h_x0r1 h_x0r2 had1 ls hl
                    subst eK315
                    obtain ⟨K317, eK317, h⟩ := lt_step h
                    have HK317 : ∀ (v316 : Bool) (h : K317 v316 = some z292) (H : Heap) (locs : List Loc) (hS : St D s H locs) (hF : Off (fun _ => False) s.heap H) (h_x0 : ON D 0 x0 [.ref x0r0, .ref x0r1, .ref x0r2, .int x0f3, .int x0f4, .int x0f5, .int x0f6] H) (h_x0r0 : aD D x0r0 8 x0r0c H) (h_x0r1 : aD D x0r1 8 x0r1c H) (h_x0r2 : aZ D x0r2 8 x0r2c H) (had1 : aI D ad1 8 w30 H) (ls : Array Slot) (hl : lv_has ls 6 [(0, .ref x0), (1, .ref ad1), (3, .int v76), (4, .int v188)]), W p l e R_X1_areOrdered s m A below meth c H locs 1 8 Q (F0 m 196 ls [.int (bI v316), .int (bI v307)]) := by
                      intro v316 h H locs hS hF h_x0 h_x0r0 h_x0r1 h_x0r2 had1 ls hl
                      subst eK317
                      obtain ⟨v318, ev318, h⟩ := lt_step h
                      refine r_iandB hx hb ev318 dX1_areOrdered_196 ?_
                      refine lv_istore_n (lv' := [(2, .int (bI v318)), (0, .ref x0), (1, .ref ad1), (3, .int v76), (4, .int v188)]) hx hb dX1_areOrdered_197 rfl hl (by decide) rfl (fun ls hl => ?_)
                      obtain ⟨v319, ev319, h⟩ := lti_step h
                      refine lv_iinc (v := v319) (lv' := [(4, .int v319), (2, .int (bI v318)), (0, .ref x0), (1, .ref ad1), (3, .int v76)]) hx hb dX1_areOrdered_198 hl (k := 4) rfl (by rw [ev319]; rfl) (by decide) rfl (fun ls hl => ?_)
                      refine lv_goto (tgt := 78) hx hb dX1_areOrdered_201 (by decide) ?_
                      obtain rfl := Option.some.inj h
                      exact ih v318 v319 w291 hk  H locs hS hF h_x0 h_x0r0 h_x0r1 h_x0r2 had1 ls (lv_sub hl [2, 3, 1, 4, 0] rfl) K204
                    clear eK317
                    refine lv_icmp_ne (tgt := 195) hx hb dX1_areOrdered_188 (by decide) (fun c320 => ?_) (fun c320 => ?_)
                    · have h := it_neg h c320
                      refine lv_iconst (v := 0) hx hb dX1_areOrdered_195 (by decide) ?_
                      exact HK317 false h H locs hS hF h_x0 h_x0r0 h_x0r1 h_x0r2 had1 ls (lv_sub hl [0, 1, 2, 3] rfl)
                    · have h := it_pos h c320
                      refine lv_iconst (v := 1) hx hb dX1_areOrdered_191 (by decide) ?_
                      refine lv_goto (tgt := 196) hx hb dX1_areOrdered_192 (by decide) ?_
                      exact HK317 true h H locs hS hF h_x0 h_x0r0 h_x0r1 h_x0r2 had1 ls (lv_sub hl [0, 1, 2, 3] rfl)
                  clear eK315
                  refine lv_icmp_ge (tgt := 187) hx hb dX1_areOrdered_180 (by decide) (fun c321 => ?_) (fun c321 => ?_)
                  · have h := it_pos h c321
                    refine lv_iconst (v := 0) hx hb dX1_areOrdered_187 (by decide) ?_
                    exact HK315 false h H locs hS hF h_x0 h_x0r0 h_x0r1 h_x0r2 had1 ls (lv_sub hl [0, 1, 2, 3] rfl)
                  · have h := it_neg h c321
                    refine lv_iconst (v := 1) hx hb dX1_areOrdered_183 (by decide) ?_
                    refine lv_goto (tgt := 188) hx hb dX1_areOrdered_184 (by decide) ?_
                    exact HK315 true h H locs hS hF h_x0 h_x0r0 h_x0r1 h_x0r2 had1 ls (lv_sub hl [0, 1, 2, 3] rfl)
                clear eK309
                refine lv_if_ge (tgt := 172) hx hb dX1_areOrdered_165 (by decide) (fun c322 => ?_) (fun c322 => ?_)
                · have h := it_pos h c322
                  refine lv_iconst (v := 0) hx hb dX1_areOrdered_172 (by decide) ?_
                  exact HK309 false h H locs hS hF h_x0 h_x0r0 h_x0r1 h_x0r2 had1 ls (lv_sub hl [1, 2, 3, 4] rfl)
                · have h := it_neg h c322
                  refine lv_iconst (v := 1) hx hb dX1_areOrdered_168 (by decide) ?_
                  refine lv_goto (tgt := 173) hx hb dX1_areOrdered_169 (by decide) ?_
                  exact HK309 true h H locs hS hF h_x0 h_x0r0 h_x0r1 h_x0r2 had1 ls (lv_sub hl [1, 2, 3, 4] rfl)
              clear eK306
              obtain ⟨K323, eK323, h⟩ := lt_step h
              have HK323 : ∀  (h : K323 () = some z292) (H : Heap) (locs : List Loc) (hS : St D s H locs) (hF : Off (fun _ => False) s.heap H) (h_x0 : ON D 0 x0 [.ref x0r0, .ref x0r1, .ref x0r2, .int x0f3, .int x0f4, .int x0f5, .int x0f6] H) (h_x0r0 : aD D x0r0 8 x0r0c H) (h_x0r1 : aD D x0r1 8 x0r1c H) (h_x0r2 : aZ D x0r2 8 x0r2c H) (had1 : aI D ad1 8 w30 H) (ls : Array Slot) (hl : lv_has ls 6 [(0, .ref x0), (1, .ref ad1), (3, .int v76), (4, .int v188), (5, .int o298)]), W p l e R_X1_areOrdered s m A below meth c H locs 1 8 Q (F0 m 159 ls [.int (bI v187)]) := by
                intro h H locs hS hF h_x0 h_x0r0 h_x0r1 h_x0r2 had1 ls hl
                subst eK323
                refine lv_iconst (v := 0) hx hb dX1_areOrdered_159 (by decide) ?_
                exact HK306 false h H locs hS hF h_x0 h_x0r0 h_x0r1 h_x0r2 had1 ls (lv_sub hl [0, 1, 2, 3, 4] rfl)
              clear eK323
              refine lv_icmp_ne (tgt := 159) hx hb dX1_areOrdered_123 (by decide) (fun c324 => ?_) (fun c324 => ?_)
              · have h := it_neg h c324
                exact HK323  h H locs hS hF h_x0 h_x0r0 h_x0r1 h_x0r2 had1 ls (lv_sub hl [1, 2, 4, 5, 0] rfl)
              · have h := it_pos h c324
                refine lv_iload hx hb dX1_areOrdered_126 (lv_at hl 0 rfl) ?_
                obtain ⟨K326, eK326, h⟩ := lt_step h
                have HK326 : ∀ (v325 : Bool) (h : K326 v325 = some z292) (H : Heap) (locs : List Loc) (hS : St D s H locs) (hF : Off (fun _ => False) s.heap H) (h_x0 : ON D 0 x0 [.ref x0r0, .ref x0r1, .ref x0r2, .int x0f3, .int x0f4, .int x0f5, .int x0f6] H) (h_x0r0 : aD D x0r0 8 x0r0c H) (h_x0r1 : aD D x0r1 8 x0r1c H) (h_x0r2 : aZ D x0r2 8 x0r2c H) (had1 : aI D ad1 8 w30 H) (ls : Array Slot) (hl : lv_has ls 6 [(0, .ref x0), (1, .ref ad1), (3, .int v76), (4, .int v188), (5, .int o298)]), W p l e R_X1_areOrdered s m A below meth c H locs 1 8 Q (F0 m 136 ls [.int (bI v325), .int (bI v187)]) := by
                  intro v325 h H locs hS hF h_x0 h_x0r0 h_x0r1 h_x0r2 had1 ls hl
                  subst eK326
                  refine lv_aload_n hx hb dX1_areOrdered_136 rfl (lv_at hl 0 rfl) ?_
                  refine r_get hx hb hts hown hS h_x0.OA rfl in_X1 1 (by decide) q915 rfl (v := .ref x0r1) rfl dX1_areOrdered_137 ?_
                  refine lv_iload_n hx hb dX1_areOrdered_140 rfl (lv_at hl 2 rfl) ?_
                  obtain ⟨i327, xi327, h⟩ := gd_step (by decide) h
                  refine r_dald hx hb hS h_x0r1 i327 xi327 dX1_areOrdered_141 ?_
                  obtain ⟨v328, ev328, h⟩ := ltd_step h
                  refine r_nmD ev328 ?_
                  refine lv_aload_n hx hb dX1_areOrdered_142 rfl (lv_at hl 0 rfl) ?_
                  refine r_get hx hb hts hown hS h_x0.OA rfl in_X1 1 (by decide) q915 rfl (v := .ref x0r1) rfl dX1_areOrdered_143 ?_
                  refine lv_iload hx hb dX1_areOrdered_146 (lv_at hl 3 rfl) ?_
                  obtain ⟨i329, xi329, h⟩ := gd_step (by decide) h
                  refine r_dald hx hb hS h_x0r1 i329 xi329 dX1_areOrdered_148 ?_
                  obtain ⟨v330, ev330, h⟩ := ltd_step h
                  refine r_nmD ev330 ?_
                  obtain ⟨o331, eo331, h⟩ := bind_step h
                  refine r_cp (r_runS (rest := [.int (bI v325), .int (bI v187)]) (As := [.double v328, .double v330]) hC 2 (m_X1_isSame   v328 v330 o331 eo331) q1273 q1274 q46 q1275 hd_X1_isSame rfl ⟨Nat.le_of_ble_eq_true rfl, Nat.le_of_ble_eq_true rfl⟩ hS trivial hl.1 rfl (Nat.le_of_ble_eq_true rfl) dX1_areOrdered_149 ⟨Nat.le_of_ble_eq_true rfl, Nat.le_of_ble_eq_true rfl⟩) ?_
                  refine lv_icmp_ne (tgt := 159) hx hb dX1_areOrdered_152 (by decide) (fun c332 => ?_) (fun c332 => ?_)
                  · have h := it_neg h c332
                    exact HK323  h H locs hS hF h_x0 h_x0r0 h_x0r1 h_x0r2 had1 ls (lv_sub hl [0, 1, 2, 3, 4] rfl)
                  · have h := it_pos h c332
                    refine lv_iconst (v := 1) hx hb dX1_areOrdered_155 (by decide) ?_
                    refine lv_goto (tgt := 160) hx hb dX1_areOrdered_156 (by decide) ?_
                    exact HK306 true h H locs hS hF h_x0 h_x0r0 h_x0r1 h_x0r2 had1 ls (lv_sub hl [0, 1, 2, 3, 4] rfl)
                clear eK326
                refine lv_if_ne (tgt := 135) hx hb dX1_areOrdered_128 (by decide) (fun c333 => ?_) (fun c333 => ?_)
                · have h := it_neg h c333
                  refine lv_iconst (v := 0) hx hb dX1_areOrdered_135 (by decide) ?_
                  exact HK326 false h H locs hS hF h_x0 h_x0r0 h_x0r1 h_x0r2 had1 ls (lv_sub hl [1, 2, 4, 5, 0] rfl)
                · have h := it_pos h c333
                  refine lv_iconst (v := 1) hx hb dX1_areOrdered_131 (by decide) ?_
                  refine lv_goto (tgt := 136) hx hb dX1_areOrdered_132 (by decide) ?_
                  exact HK326 true h H locs hS hF h_x0 h_x0r0 h_x0r1 h_x0r2 had1 ls (lv_sub hl [1, 2, 4, 5, 0] rfl)
        clear eF290
        refine HL 9 v75 0 w291 ew291  H locs hS hF h_x0 h_x0r0 h_x0r1 h_x0r2 had1 ls (lv_sub hl [1, 2, 3, 4, 0] rfl) (fun  H locs hS hF h_x0 h_x0r0 h_x0r1 h_x0r2 had1 ls hl => ?_)
        obtain ⟨v334, ev334, h⟩ := lti_step h
        refine lv_iinc (v := v334) (lv' := [(3, .int v334), (0, .ref x0), (1, .ref ad1), (2, .int (bI w291))]) hx hb dX1_areOrdered_204 hl (k := 3) rfl (by rw [ev334]; rfl) (by decide) rfl (fun ls hl => ?_)
        refine lv_goto (tgt := 69) hx hb dX1_areOrdered_207 (by decide) ?_
        obtain rfl := Option.some.inj h
        exact ih w291 v334 w184 hk  H locs hS hF h_x0 h_x0r0 h_x0r1 h_x0r2 had1 ls (lv_sub hl [1, 2, 3, 0] rfl) K210
  clear eF183
  refine HL 9 true 0 w184 ew184  H locs hS hF h_x0 h_x0r0 h_x0r1 h_x0r2 had1 ls (lv_sub hl [2, 3, 1, 0] rfl) (fun  H locs hS hF h_x0 h_x0r0 h_x0r1 h_x0r2 ls hl => ?_)
  refine lv_iload_n hx hb dX1_areOrdered_210 rfl (lv_at hl 0 rfl) ?_
  obtain rfl := Option.some.inj h
  rw [eQ]
  exact r_zret hx hb hr hlk hS (narB _) (Nat.le_of_ble_eq_true rfl) (Nat.le_of_ble_eq_true rfl) dX1_areOrdered_211 ⟨_, rfl, rfl, hF⟩

abbrev R_X1_answer : Room := { frames := 9, cells := 6, slots := 85, locals := 1411 }
noncomputable def f_X1_answer (x0 : Int32) (x1 : UInt64) : Option (UInt64) :=
  (if x0 = 0 then
    Option.bind (f_J6_sin x1) fun o2 =>
    some o2
  else
  (if x0 = 1 then
    Option.bind (f_J6_cos x1) fun o4 =>
    some o4
  else
  Option.bind (f_J6_tan x1) fun o5 =>
  some o5
  ))
theorem hd_X1_answer : Hd yX1_answer 2 := by unfold Hd; decide +kernel
set_option maxHeartbeats 4000000 in
set_option maxRecDepth 100000 in
theorem m_X1_answer {l : Launch} {D : DD}   (x0 : Int32) (x1 : UInt64) (r : UInt64) (h : f_X1_answer x0 x1 = some r) : MT l D yX1_answer cX1_answer 3 (some .double) 9 1411 6 85 [.int x0, .double x1] NoPre (pD (fun H b H' => b = r ∧ Off (fun _ => False) H H')) := by
  refine MT.start (by decide +kernel) (Nat.le_of_ble_eq_true rfl) ?_
  intro p e s m below meth c ls hC hS hp hl
  obtain ⟨hx, hb, hr, hlk, hml, hown, hts, hnm⟩ := id hC
  have hl : lv_has ls 3 [(0, .int x0), (1, .double x1)] := hl
  unfold f_X1_answer at h
  have hS0 := hS
  obtain ⟨A, eA⟩ : ∃ A : Array Value, A = [.int x0, .double x1].toArray := ⟨_, rfl⟩
  rw [← eA] at hC hts ⊢
  obtain ⟨Q, eQ⟩ : ∃ Q : State → Prop, Q = MQ below (TQ D (pD (fun H b H' => b = r ∧ Off (fun _ => False) H H'))) A s 6 85 (fun q => dB D ≤ q) := ⟨_, rfl⟩
  have hF : Off (fun _ => False) s.heap s.heap := Off.rf
  show W p l e R_X1_answer s m A below meth c s.heap [] 0 0 _ _
  rw [← eQ]
  obtain ⟨H, eH⟩ : ∃ H : Heap, H = s.heap := ⟨_, rfl⟩
  obtain ⟨locs, eLc⟩ : ∃ L : List Loc, L = [] := ⟨_, rfl⟩
  rw [← eH, ← eLc]
  have hF : Off (fun _ => False) s.heap H := by rw [eH]; exact hF
  have hS : St D s H locs := by rw [eH, eLc]; exact hS
  refine lv_iload_n hx hb dX1_answer_0 rfl (lv_at hl 0 rfl) ?_
  by_cases c1 : x0 = 0
  · have h := it_pos h c1
    refine lv_lookup (off := 27) (tgt := 28) hx hb dX1_answer_1 (by decide) (by rw [c1]; decide) (by decide) ?_
    refine lv_dload_n hx hb dX1_answer_28 rfl (lv_at hl 1 rfl) ?_
    obtain ⟨o2, eo2, h⟩ := bind_step h
    refine r_cd (r_runS (rest := []) (As := [.double x1]) hC 1 (m_J6_sin x1  o2 eo2) q173 q174 q47 q175 hd_J6_sin rfl ⟨Nat.le_of_ble_eq_true rfl, Nat.le_of_ble_eq_true rfl⟩ hS trivial hl.1 rfl (Nat.le_of_ble_eq_true rfl) dX1_answer_29 ⟨Nat.le_of_ble_eq_true rfl, Nat.le_of_ble_eq_true rfl⟩) hS (fun b H locs hp hS hz => ?_)
    obtain ⟨eb_, hO⟩ := hp
    rw [eb_]
    have hF := hF.trans (hO.mono (fun _ _ z => z.elim))
    obtain rfl := Option.some.inj h
    rw [eQ]
    exact r_dret hx hb hr hlk hS (Nat.le_of_ble_eq_true rfl) (Nat.le_of_ble_eq_true rfl) dX1_answer_32 ⟨_, rfl, rfl, hF⟩
  have h := it_neg h c1
  by_cases c3 : x0 = 1
  · have h := it_pos h c3
    refine lv_lookup (off := 32) (tgt := 33) hx hb dX1_answer_1 (by decide) (by rw [c3]; decide) (by decide) ?_
    refine lv_dload_n hx hb dX1_answer_33 rfl (lv_at hl 1 rfl) ?_
    obtain ⟨o4, eo4, h⟩ := bind_step h
    refine r_cd (r_runS (rest := []) (As := [.double x1]) hC 1 (m_J6_cos x1  o4 eo4) q318 q319 q47 q320 hd_J6_cos rfl ⟨Nat.le_of_ble_eq_true rfl, Nat.le_of_ble_eq_true rfl⟩ hS trivial hl.1 rfl (Nat.le_of_ble_eq_true rfl) dX1_answer_34 ⟨Nat.le_of_ble_eq_true rfl, Nat.le_of_ble_eq_true rfl⟩) hS (fun b H locs hp hS hz => ?_)
    obtain ⟨eb_, hO⟩ := hp
    rw [eb_]
    have hF := hF.trans (hO.mono (fun _ _ z => z.elim))
    obtain rfl := Option.some.inj h
    rw [eQ]
    exact r_dret hx hb hr hlk hS (Nat.le_of_ble_eq_true rfl) (Nat.le_of_ble_eq_true rfl) dX1_answer_37 ⟨_, rfl, rfl, hF⟩
  have h := it_neg h c3
  refine lv_lookup (off := 37) (tgt := 38) hx hb dX1_answer_1 (by decide) ((lv_osw (k := 0) c1 (by decide)).trans (lv_osw (k := 1) c3 (by decide))) (by decide) ?_
  refine lv_dload_n hx hb dX1_answer_38 rfl (lv_at hl 1 rfl) ?_
  obtain ⟨o5, eo5, h⟩ := bind_step h
  refine r_cd (r_runS (rest := []) (As := [.double x1]) hC 1 (m_J6_tan x1  o5 eo5) q329 q330 q47 q331 hd_J6_tan rfl ⟨Nat.le_of_ble_eq_true rfl, Nat.le_of_ble_eq_true rfl⟩ hS trivial hl.1 rfl (Nat.le_of_ble_eq_true rfl) dX1_answer_39 ⟨Nat.le_of_ble_eq_true rfl, Nat.le_of_ble_eq_true rfl⟩) hS (fun b H locs hp hS hz => ?_)
  obtain ⟨eb_, hO⟩ := hp
  rw [eb_]
  have hF := hF.trans (hO.mono (fun _ _ z => z.elim))
  obtain rfl := Option.some.inj h
  rw [eQ]
  exact r_dret hx hb hr hlk hS (Nat.le_of_ble_eq_true rfl) (Nat.le_of_ble_eq_true rfl) dX1_answer_42 ⟨_, rfl, rfl, hF⟩

abbrev R_X1_refused : Room := { frames := 0, cells := 0, slots := 0, locals := 0 }
noncomputable def f_X1_refused (x0r0c : Nat → UInt64) (x0r1c : Nat → UInt64) (x0r2c : Nat → Int32) (x0f3 : Int32) (x0f4 : Int32) (x0f5 : Int32) (x0f6 : Int32) : Option (Int32 × Int32) :=
  lti (x0f5 + 1) fun v1 =>
  some ((-9), v1)
theorem hd_X1_refused : Hd yX1_refused 0 := by unfold Hd; decide +kernel
set_option maxHeartbeats 4000000 in
set_option maxRecDepth 100000 in
theorem m_X1_refused {l : Launch} {D : DD} (x0 : Nat) (x0r0 : Nat) (x0r1 : Nat) (x0r2 : Nat)  (x0r0c : Nat → UInt64) (x0r1c : Nat → UInt64) (x0r2c : Nat → Int32) (x0f3 : Int32) (x0f4 : Int32) (x0f5 : Int32) (x0f6 : Int32) (r : Int32 × Int32) (h : f_X1_refused x0r0c x0r1c x0r2c x0f3 x0f4 x0f5 x0f6 = some r) : MT l D yX1_refused cX1_refused 1 (some .int) 0 0 0 0 [.ref x0] (fun H => ON D 0 x0 [.ref x0r0, .ref x0r1, .ref x0r2, .int x0f3, .int x0f4, .int x0f5, .int x0f6] H ∧ dB D ≤ x0 ∧ aD D x0r0 8 x0r0c H ∧ aD D x0r1 8 x0r1c H ∧ aZ D x0r2 8 x0r2c H ∧ x0 ≠ x0r0 ∧ x0 ≠ x0r1 ∧ x0 ≠ x0r2) (pI (fun H b H' => b = r.1 ∧ ON D 0 x0 [.ref x0r0, .ref x0r1, .ref x0r2, .int x0f3, .int x0f4, .int r.2, .int x0f6] H' ∧ Off (fun a => a = x0) H H')) := by
  refine MT.start (by decide +kernel) (Nat.le_of_ble_eq_true rfl) ?_
  intro p e s m below meth c ls hC hS hp hl
  obtain ⟨h_x0, hB_h_x0, h_x0r0, h_x0r1, h_x0r2, ne_x0_x0r0, ne_x0_x0r1, ne_x0_x0r2⟩ := hp
  obtain ⟨hx, hb, hr, hlk, hml, hown, hts, hnm⟩ := id hC
  have hl : lv_has ls 1 [(0, .ref x0)] := hl
  unfold f_X1_refused at h
  have hS0 := hS
  obtain ⟨A, eA⟩ : ∃ A : Array Value, A = [.ref x0].toArray := ⟨_, rfl⟩
  rw [← eA] at hC hts ⊢
  obtain ⟨Q, eQ⟩ : ∃ Q : State → Prop, Q = MQ below (TQ D (pI (fun H b H' => b = r.1 ∧ ON D 0 x0 [.ref x0r0, .ref x0r1, .ref x0r2, .int x0f3, .int x0f4, .int r.2, .int x0f6] H' ∧ Off (fun a => a = x0) H H'))) A s 0 0 (fun q => dB D ≤ q) := ⟨_, rfl⟩
  have hF : Off (fun a => a = x0) s.heap s.heap := Off.rf
  show W p l e R_X1_refused s m A below meth c s.heap [] 0 0 _ _
  rw [← eQ]
  obtain ⟨H, eH⟩ : ∃ H : Heap, H = s.heap := ⟨_, rfl⟩
  obtain ⟨locs, eLc⟩ : ∃ L : List Loc, L = [] := ⟨_, rfl⟩
  have lt_h_x0 := h_x0.lt
  have lt_h_x0r0 := h_x0r0.lt
  have lt_h_x0r1 := h_x0r1.lt
  have lt_h_x0r2 := h_x0r2.lt
  rw [← eH, ← eLc]
  have hF : Off (fun a => a = x0) s.heap H := by rw [eH]; exact hF
  rw [← eH] at h_x0
  rw [← eH] at h_x0r0
  rw [← eH] at h_x0r1
  rw [← eH] at h_x0r2
  have hS : St D s H locs := by rw [eH, eLc]; exact hS
  refine lv_aload_n hx hb dX1_refused_0 rfl (lv_at hl 0 rfl) ?_
  refine lv_dup hx hb dX1_refused_1 rfl ?_
  refine r_get hx hb hts hown hS h_x0.OA rfl in_X1 5 (by decide) q919 rfl (v := .int x0f5) rfl dX1_refused_2 ?_
  refine lv_iconst (v := 1) hx hb dX1_refused_5 (by decide) ?_
  obtain ⟨v1, ev1, h⟩ := lti_step h
  refine r_iadd hx hb ev1 dX1_refused_6 ?_
  refine r_put hx hb hts hown hS h_x0 hB_h_x0 rfl in_X1 tyX1 tyX1_ok nmX1 5 (Nat.le_of_ble_eq_true rfl) rfl q919 rfl rfl (v := .int v1) rfl (by rfl) dX1_refused_7 (fun H locs hS hO h_x0 => ?_)
  have h_x0 : ON D 0 x0 [.ref x0r0, .ref x0r1, .ref x0r2, .int x0f3, .int x0f4, .int v1, .int x0f6] H := h_x0
  have h_x0r0 := h_x0r0.off hO (Ne.symm ne_x0_x0r0)
  have h_x0r1 := h_x0r1.off hO (Ne.symm ne_x0_x0r1)
  have h_x0r2 := h_x0r2.off hO (Ne.symm ne_x0_x0r2)
  have hF := hF.fresh hO (fun a ha z => z)
  refine lv_bipush (v := (-9)) hx hb dX1_refused_10 (by decide) ?_
  obtain rfl := Option.some.inj h
  rw [eQ]
  exact r_iret hx hb hr hlk hS (Nat.le_of_ble_eq_true rfl) (Nat.le_of_ble_eq_true rfl) dX1_refused_12 ⟨_, rfl, rfl, h_x0, hF⟩

abbrev R_X1_heightPut : Room := { frames := 4, cells := 0, slots := 0, locals := 88 }
noncomputable def f_X1_heightPut (x0r0c : Nat → UInt64) (x0r1c : Nat → UInt64) (x0r2c : Nat → Int32) (x0f3 : Int32) (x0f4 : Int32) (x0f5 : Int32) (x0f6 : Int32) (x1 : Int32) (x2 : UInt64) : Option (Int32 × Int32 × (Nat → UInt64)) :=
  Option.bind (f_X1_mustBeCell x1) fun o1 =>
  gd 8 x1 fun i2 =>
  ltd (x0r1c i2) fun v3 =>
  gd 8 x1 fun i4 =>
  lt (va_up x0r1c i4 x2) fun f5 =>
  lti (x0f4 + 1) fun v6 =>
  Option.bind (f_X1_isSame v3 x2) fun o7 =>
  (if o7 = true then
    Option.bind (f_X1_bit false) fun o9 =>
    some (o9, v6, f5)
  else
    Option.bind (f_X1_bit true) fun o10 =>
    some (o10, v6, f5)
  )
theorem hd_X1_heightPut : Hd yX1_heightPut 2 := by unfold Hd; decide +kernel
set_option maxHeartbeats 4000000 in
set_option maxRecDepth 100000 in
theorem m_X1_heightPut {l : Launch} {D : DD} (x0 : Nat) (x0r0 : Nat) (x0r1 : Nat) (x0r2 : Nat)  (x0r0c : Nat → UInt64) (x0r1c : Nat → UInt64) (x0r2c : Nat → Int32) (x0f3 : Int32) (x0f4 : Int32) (x0f5 : Int32) (x0f6 : Int32) (x1 : Int32) (x2 : UInt64) (r : Int32 × Int32 × (Nat → UInt64)) (h : f_X1_heightPut x0r0c x0r1c x0r2c x0f3 x0f4 x0f5 x0f6 x1 x2 = some r) : MT l D yX1_heightPut cX1_heightPut 6 (some .int) 4 88 0 0 [.ref x0, .int x1, .double x2] (fun H => ON D 0 x0 [.ref x0r0, .ref x0r1, .ref x0r2, .int x0f3, .int x0f4, .int x0f5, .int x0f6] H ∧ dB D ≤ x0 ∧ aD D x0r0 8 x0r0c H ∧ aD D x0r1 8 x0r1c H ∧ dB D ≤ x0r1 ∧ aZ D x0r2 8 x0r2c H ∧ x0 ≠ x0r0 ∧ x0 ≠ x0r1 ∧ x0 ≠ x0r2 ∧ x0r0 ≠ x0r1 ∧ x0r1 ≠ x0r2) (pI (fun H b H' => b = r.1 ∧ ON D 0 x0 [.ref x0r0, .ref x0r1, .ref x0r2, .int x0f3, .int r.2.1, .int x0f5, .int x0f6] H' ∧ aD D x0r1 8 r.2.2 H' ∧ Off (fun a => a = x0 ∨ a = x0r1) H H')) := by
  refine MT.start (by decide +kernel) (Nat.le_of_ble_eq_true rfl) ?_
  intro p e s m below meth c ls hC hS hp hl
  obtain ⟨h_x0, hB_h_x0, h_x0r0, h_x0r1, hB_h_x0r1, h_x0r2, ne_x0_x0r0, ne_x0_x0r1, ne_x0_x0r2, ne_x0r0_x0r1, ne_x0r1_x0r2⟩ := hp
  obtain ⟨hx, hb, hr, hlk, hml, hown, hts, hnm⟩ := id hC
  have hl : lv_has ls 6 [(0, .ref x0), (1, .int x1), (2, .double x2)] := hl
  unfold f_X1_heightPut at h
  have hS0 := hS
  obtain ⟨A, eA⟩ : ∃ A : Array Value, A = [.ref x0, .int x1, .double x2].toArray := ⟨_, rfl⟩
  rw [← eA] at hC hts ⊢
  obtain ⟨Q, eQ⟩ : ∃ Q : State → Prop, Q = MQ below (TQ D (pI (fun H b H' => b = r.1 ∧ ON D 0 x0 [.ref x0r0, .ref x0r1, .ref x0r2, .int x0f3, .int r.2.1, .int x0f5, .int x0f6] H' ∧ aD D x0r1 8 r.2.2 H' ∧ Off (fun a => a = x0 ∨ a = x0r1) H H'))) A s 0 0 (fun q => dB D ≤ q) := ⟨_, rfl⟩
  have hF : Off (fun a => a = x0 ∨ a = x0r1) s.heap s.heap := Off.rf
  show W p l e R_X1_heightPut s m A below meth c s.heap [] 0 0 _ _
  rw [← eQ]
  obtain ⟨H, eH⟩ : ∃ H : Heap, H = s.heap := ⟨_, rfl⟩
  obtain ⟨locs, eLc⟩ : ∃ L : List Loc, L = [] := ⟨_, rfl⟩
  have lt_h_x0 := h_x0.lt
  have lt_h_x0r0 := h_x0r0.lt
  have lt_h_x0r1 := h_x0r1.lt
  have lt_h_x0r2 := h_x0r2.lt
  rw [← eH, ← eLc]
  have hF : Off (fun a => a = x0 ∨ a = x0r1) s.heap H := by rw [eH]; exact hF
  rw [← eH] at h_x0
  rw [← eH] at h_x0r0
  rw [← eH] at h_x0r1
  rw [← eH] at h_x0r2
  have hS : St D s H locs := by rw [eH, eLc]; exact hS
  refine lv_iload_n hx hb dX1_heightPut_0 rfl (lv_at hl 1 rfl) ?_
  obtain ⟨o1, eo1, h⟩ := bind_step h
  refine r_cpv (r_runS (rest := []) (As := [.int x1]) hC 1 (m_X1_mustBeCell   x1 o1 eo1) q956 q957 q46 q958 hd_X1_mustBeCell rfl ⟨Nat.le_of_ble_eq_true rfl, Nat.le_of_ble_eq_true rfl⟩ hS trivial hl.1 rfl (Nat.le_of_ble_eq_true rfl) dX1_heightPut_1 ⟨Nat.le_of_ble_eq_true rfl, Nat.le_of_ble_eq_true rfl⟩) ?_
  refine lv_aload_n hx hb dX1_heightPut_4 rfl (lv_at hl 0 rfl) ?_
  refine r_get hx hb hts hown hS h_x0.OA rfl in_X1 1 (by decide) q915 rfl (v := .ref x0r1) rfl dX1_heightPut_5 ?_
  refine lv_iload_n hx hb dX1_heightPut_8 rfl (lv_at hl 1 rfl) ?_
  obtain ⟨i2, xi2, h⟩ := gd_step (by decide) h
  refine r_dald hx hb hS h_x0r1 i2 xi2 dX1_heightPut_9 ?_
  obtain ⟨v3, ev3, h⟩ := ltd_step h
  refine r_nmD ev3 ?_
  refine lv_dstore (lv' := [(4, .double v3), (0, .ref x0), (1, .int x1), (2, .double x2)]) hx hb dX1_heightPut_10 hl (by decide) rfl (fun ls hl => ?_)
  refine lv_aload_n hx hb dX1_heightPut_12 rfl (lv_at hl 1 rfl) ?_
  refine r_get hx hb hts hown hS h_x0.OA rfl in_X1 1 (by decide) q915 rfl (v := .ref x0r1) rfl dX1_heightPut_13 ?_
  refine lv_iload_n hx hb dX1_heightPut_16 rfl (lv_at hl 2 rfl) ?_
  refine lv_dload_n hx hb dX1_heightPut_17 rfl (lv_at hl 3 rfl) ?_
  obtain ⟨i4, xi4, h⟩ := gd_step (by decide) h
  obtain ⟨f5, ef5, h⟩ := lt_step h
  refine r_dast hx hb hS h_x0r1 hB_h_x0r1 i4 xi4 dX1_heightPut_18 (fun H locs hS hO h_x0r1 => ?_)
  have h_x0r1 : aD D x0r1 8 f5 H := by rw [ef5]; exact h_x0r1
  have h_x0 := h_x0.off hO ne_x0_x0r1
  have h_x0r0 := h_x0r0.off hO ne_x0r0_x0r1
  have h_x0r2 := h_x0r2.off hO (Ne.symm ne_x0r1_x0r2)
  have hF := hF.fresh hO (fun a ha z => Or.inr (z))
  refine lv_aload_n hx hb dX1_heightPut_19 rfl (lv_at hl 1 rfl) ?_
  refine lv_dup hx hb dX1_heightPut_20 rfl ?_
  refine r_get hx hb hts hown hS h_x0.OA rfl in_X1 4 (by decide) q918 rfl (v := .int x0f4) rfl dX1_heightPut_21 ?_
  refine lv_iconst (v := 1) hx hb dX1_heightPut_24 (by decide) ?_
  obtain ⟨v6, ev6, h⟩ := lti_step h
  refine r_iadd hx hb ev6 dX1_heightPut_25 ?_
  refine r_put hx hb hts hown hS h_x0 hB_h_x0 rfl in_X1 tyX1 tyX1_ok nmX1 4 (Nat.le_of_ble_eq_true rfl) rfl q918 rfl rfl (v := .int v6) rfl (by rfl) dX1_heightPut_26 (fun H locs hS hO h_x0 => ?_)
  have h_x0 : ON D 0 x0 [.ref x0r0, .ref x0r1, .ref x0r2, .int x0f3, .int v6, .int x0f5, .int x0f6] H := h_x0
  have h_x0r0 := h_x0r0.off hO (Ne.symm ne_x0_x0r0)
  have h_x0r1 := h_x0r1.off hO (Ne.symm ne_x0_x0r1)
  have h_x0r2 := h_x0r2.off hO (Ne.symm ne_x0_x0r2)
  have hF := hF.fresh hO (fun a ha z => Or.inl z)
  refine lv_dload hx hb dX1_heightPut_29 (lv_at hl 0 rfl) ?_
  refine lv_dload_n hx hb dX1_heightPut_31 rfl (lv_at hl 3 rfl) ?_
  obtain ⟨o7, eo7, h⟩ := bind_step h
  refine r_cp (r_runS (rest := []) (As := [.double v3, .double x2]) hC 2 (m_X1_isSame   v3 x2 o7 eo7) q1273 q1274 q46 q1275 hd_X1_isSame rfl ⟨Nat.le_of_ble_eq_true rfl, Nat.le_of_ble_eq_true rfl⟩ hS trivial hl.1 rfl (Nat.le_of_ble_eq_true rfl) dX1_heightPut_32 ⟨Nat.le_of_ble_eq_true rfl, Nat.le_of_ble_eq_true rfl⟩) ?_
  refine r_ifz_ne (tgt := 42) hx hb dX1_heightPut_35 (by decide) (fun c8 => ?_) (fun c8 => ?_)
  · have h := it_pos h (by rw [c8])
    refine lv_iconst (v := 0) hx hb dX1_heightPut_42 (by decide) ?_
    obtain ⟨o9, eo9, h⟩ := bind_step h
    refine r_cp (r_runS (rest := []) (As := [.int 0]) hC 1 (m_X1_bit   false o9 eo9) q389 q390 q46 q391 hd_X1_bit rfl ⟨Nat.le_of_ble_eq_true rfl, Nat.le_of_ble_eq_true rfl⟩ hS trivial hl.1 rfl (Nat.le_of_ble_eq_true rfl) dX1_heightPut_43 ⟨Nat.le_of_ble_eq_true rfl, Nat.le_of_ble_eq_true rfl⟩) ?_
    obtain rfl := Option.some.inj h
    rw [eQ]
    exact r_iret hx hb hr hlk hS (Nat.le_of_ble_eq_true rfl) (Nat.le_of_ble_eq_true rfl) dX1_heightPut_46 ⟨_, rfl, rfl, h_x0, h_x0r1, hF⟩
  · have h := it_neg h (by rw [c8]; decide)
    refine lv_iconst (v := 1) hx hb dX1_heightPut_38 (by decide) ?_
    refine lv_goto (tgt := 43) hx hb dX1_heightPut_39 (by decide) ?_
    obtain ⟨o10, eo10, h⟩ := bind_step h
    refine r_cp (r_runS (rest := []) (As := [.int 1]) hC 1 (m_X1_bit   true o10 eo10) q389 q390 q46 q391 hd_X1_bit rfl ⟨Nat.le_of_ble_eq_true rfl, Nat.le_of_ble_eq_true rfl⟩ hS trivial hl.1 rfl (Nat.le_of_ble_eq_true rfl) dX1_heightPut_43 ⟨Nat.le_of_ble_eq_true rfl, Nat.le_of_ble_eq_true rfl⟩) ?_
    obtain rfl := Option.some.inj h
    rw [eQ]
    exact r_iret hx hb hr hlk hS (Nat.le_of_ble_eq_true rfl) (Nat.le_of_ble_eq_true rfl) dX1_heightPut_46 ⟨_, rfl, rfl, h_x0, h_x0r1, hF⟩

abbrev R_X1_fill : Room := { frames := 10, cells := 54, slots := 765, locals := 1433 }
noncomputable def f_X1_fill (x0r0c : Nat → UInt64) (x0r1c : Nat → UInt64) (x0r2c : Nat → Int32) (x0f3 : Int32) (x0f4 : Int32) (x0f5 : Int32) (x0f6 : Int32) (x1 : Int32) : Option (Int32 × Int32 × (Nat → UInt64)) :=
  Option.bind (f_X1_isIn x1 0 2) fun o1 =>
  Option.bind (f_X1_mustFit o1) fun o2 =>
  lt (fun (f3 : Nat → UInt64) (v4 : Int32) (v5 : Int32) =>
  (show Option (Sum ((Nat → UInt64) × Int32 × Int32) ((Nat → UInt64) × Int32)) from (
  (if 8 ≤ v5 then
    some (.inr (f3, v4))
  else
    gd 8 v5 fun i30 =>
    ltd (f3 i30) fun v31 =>
    gd 8 v5 fun i32 =>
    ltd (x0r0c i32) fun v33 =>
    Option.bind (f_X1_answer x1 v33) fun o34 =>
    gd 8 v5 fun i35 =>
    lt (va_up f3 i35 o34) fun f36 =>
    gd 8 v5 fun i37 =>
    ltd (f36 i37) fun v38 =>
    Option.bind (f_X1_isSame v31 v38) fun o39 =>
    lt (fun (v40 : Bool) =>
    Option.bind (f_X1_bit v40) fun o42 =>
    lti (v4 + o42) fun v43 =>
    lti (v5 + 1) fun v44 =>
    some (.inl (f36, v43, v44))
    ) fun K41 =>
    (if o39 = true then
      K41 false
    else
      K41 true
    )
  )
  ))
  ) fun F26 =>
  Option.bind (lp 9 (fun x => F26 x.1 x.2.1 x.2.2) (x0r1c, 0, 0)) fun w27 =>
  lti (x0f4 + 1) fun v46 =>
  some (w27.2, v46, w27.1)
theorem hd_X1_fill : Hd yX1_fill 1 := by unfold Hd; decide +kernel
set_option maxHeartbeats 4000000 in
set_option maxRecDepth 100000 in
theorem m_X1_fill {l : Launch} {D : DD} (x0 : Nat) (x0r0 : Nat) (x0r1 : Nat) (x0r2 : Nat)  (x0r0c : Nat → UInt64) (x0r1c : Nat → UInt64) (x0r2c : Nat → Int32) (x0f3 : Int32) (x0f4 : Int32) (x0f5 : Int32) (x0f6 : Int32) (x1 : Int32) (r : Int32 × Int32 × (Nat → UInt64)) (h : f_X1_fill x0r0c x0r1c x0r2c x0f3 x0f4 x0f5 x0f6 x1 = some r) : MT l D yX1_fill cX1_fill 6 (some .int) 10 1433 54 765 [.ref x0, .int x1] (fun H => ON D 0 x0 [.ref x0r0, .ref x0r1, .ref x0r2, .int x0f3, .int x0f4, .int x0f5, .int x0f6] H ∧ dB D ≤ x0 ∧ aD D x0r0 8 x0r0c H ∧ aD D x0r1 8 x0r1c H ∧ dB D ≤ x0r1 ∧ aZ D x0r2 8 x0r2c H ∧ x0 ≠ x0r0 ∧ x0 ≠ x0r1 ∧ x0 ≠ x0r2 ∧ x0r0 ≠ x0r1 ∧ x0r1 ≠ x0r2) (pI (fun H b H' => b = r.1 ∧ ON D 0 x0 [.ref x0r0, .ref x0r1, .ref x0r2, .int x0f3, .int r.2.1, .int x0f5, .int x0f6] H' ∧ aD D x0r1 8 r.2.2 H' ∧ Off (fun a => a = x0 ∨ a = x0r1) H H')) := by
  refine MT.start (by decide +kernel) (Nat.le_of_ble_eq_true rfl) ?_
  intro p e s m below meth c ls hC hS hp hl
  obtain ⟨h_x0, hB_h_x0, h_x0r0, h_x0r1, hB_h_x0r1, h_x0r2, ne_x0_x0r0, ne_x0_x0r1, ne_x0_x0r2, ne_x0r0_x0r1, ne_x0r1_x0r2⟩ := hp
  obtain ⟨hx, hb, hr, hlk, hml, hown, hts, hnm⟩ := id hC
  have hl : lv_has ls 6 [(0, .ref x0), (1, .int x1)] := hl
  unfold f_X1_fill at h
  have hS0 := hS
  obtain ⟨A, eA⟩ : ∃ A : Array Value, A = [.ref x0, .int x1].toArray := ⟨_, rfl⟩
  rw [← eA] at hC hts ⊢
  obtain ⟨Q, eQ⟩ : ∃ Q : State → Prop, Q = MQ below (TQ D (pI (fun H b H' => b = r.1 ∧ ON D 0 x0 [.ref x0r0, .ref x0r1, .ref x0r2, .int x0f3, .int r.2.1, .int x0f5, .int x0f6] H' ∧ aD D x0r1 8 r.2.2 H' ∧ Off (fun a => a = x0 ∨ a = x0r1) H H'))) A s 54 765 (fun q => dB D ≤ q) := ⟨_, rfl⟩
  have hF : Off (fun a => a = x0 ∨ a = x0r1) s.heap s.heap := Off.rf
  show W p l e R_X1_fill s m A below meth c s.heap [] 0 0 _ _
  rw [← eQ]
  obtain ⟨H, eH⟩ : ∃ H : Heap, H = s.heap := ⟨_, rfl⟩
  obtain ⟨locs, eLc⟩ : ∃ L : List Loc, L = [] := ⟨_, rfl⟩
  have lt_h_x0 := h_x0.lt
  have lt_h_x0r0 := h_x0r0.lt
  have lt_h_x0r1 := h_x0r1.lt
  have lt_h_x0r2 := h_x0r2.lt
  rw [← eH, ← eLc]
  have hF : Off (fun a => a = x0 ∨ a = x0r1) s.heap H := by rw [eH]; exact hF
  rw [← eH] at h_x0
  rw [← eH] at h_x0r0
  rw [← eH] at h_x0r1
  rw [← eH] at h_x0r2
  have hS : St D s H locs := by rw [eH, eLc]; exact hS
  refine lv_iload_n hx hb dX1_fill_0 rfl (lv_at hl 1 rfl) ?_
  refine lv_iconst (v := 0) hx hb dX1_fill_1 (by decide) ?_
  refine lv_iconst (v := 2) hx hb dX1_fill_2 (by decide) ?_
  obtain ⟨o1, eo1, h⟩ := bind_step h
  refine r_cp (r_runS (rest := []) (As := [.int x1, .int 0, .int 2]) hC 3 (m_X1_isIn   x1 0 2 o1 eo1) q395 q396 q46 q397 hd_X1_isIn rfl ⟨Nat.le_of_ble_eq_true rfl, Nat.le_of_ble_eq_true rfl⟩ hS trivial hl.1 rfl (Nat.le_of_ble_eq_true rfl) dX1_fill_3 ⟨Nat.le_of_ble_eq_true rfl, Nat.le_of_ble_eq_true rfl⟩) ?_
  obtain ⟨o2, eo2, h⟩ := bind_step h
  refine r_cpv (r_runS (rest := []) (As := [.int (bI o1)]) hC 1 (m_X1_mustFit   o1 o2 eo2) q1230 q1231 q46 q1232 hd_X1_mustFit rfl ⟨Nat.le_of_ble_eq_true rfl, Nat.le_of_ble_eq_true rfl⟩ hS trivial hl.1 rfl (Nat.le_of_ble_eq_true rfl) dX1_fill_6 ⟨Nat.le_of_ble_eq_true rfl, Nat.le_of_ble_eq_true rfl⟩) ?_
  refine lv_iconst (v := 0) hx hb dX1_fill_9 (by decide) ?_
  refine lv_istore_n (lv' := [(2, .int 0), (0, .ref x0), (1, .int x1)]) hx hb dX1_fill_10 rfl hl (by decide) rfl (fun ls hl => ?_)
  refine lv_iconst (v := 0) hx hb dX1_fill_11 (by decide) ?_
  refine lv_istore_n (lv' := [(3, .int 0), (2, .int 0), (0, .ref x0), (1, .int x1)]) hx hb dX1_fill_12 rfl hl (by decide) rfl (fun ls hl => ?_)
  obtain ⟨F26, eF26, h⟩ := lt_step h
  obtain ⟨w27, ew27, h⟩ := bind_step h
  obtain ⟨CE, eCE⟩ : ∃ x : Nat, x = 0 + 54 := ⟨_, rfl⟩
  obtain ⟨SE, eSE⟩ : ∃ x : Nat, x = 0 + 765 := ⟨_, rfl⟩
  have hCE : CE ≤ R_X1_fill.cells := (by rw [eCE]; exact Nat.le_of_ble_eq_true rfl)
  have hSE : SE ≤ R_X1_fill.slots := (by rw [eSE]; exact Nat.le_of_ble_eq_true rfl)
  have HL : ∀ (n : Nat) (f3 : Nat → UInt64) (v4 : Int32) (v5 : Int32) (w27 : (Nat → UInt64) × Int32) (hk0 : lp n (fun x => F26 x.1 x.2.1 x.2.2) (f3, v4, v5) = some w27) (cl : Nat) (sl : Nat) (hcl : cl + 6 * n ≤ CE) (hsl : sl + 85 * n ≤ SE) (H : Heap) (locs : List Loc) (hS : St D s H locs) (hF : Off (fun a => a = x0 ∨ a = x0r1) s.heap H) (h_x0 : ON D 0 x0 [.ref x0r0, .ref x0r1, .ref x0r2, .int x0f3, .int x0f4, .int x0f5, .int x0f6] H) (h_x0r0 : aD D x0r0 8 x0r0c H) (h_x0r1 : aD D x0r1 8 f3 H) (h_x0r2 : aZ D x0r2 8 x0r2c H) (ls : Array Slot) (hl : lv_has ls 6 [(0, .ref x0), (1, .int x1), (2, .int v4), (3, .int v5)]) (K74 : ∀ (H : Heap) (locs : List Loc) (hS : St D s H locs) (hF : Off (fun a => a = x0 ∨ a = x0r1) s.heap H) (h_x0 : ON D 0 x0 [.ref x0r0, .ref x0r1, .ref x0r2, .int x0f3, .int x0f4, .int x0f5, .int x0f6] H) (h_x0r0 : aD D x0r0 8 x0r0c H) (h_x0r1 : aD D x0r1 8 w27.1 H) (h_x0r2 : aZ D x0r2 8 x0r2c H) (ls : Array Slot) (hl : lv_has ls 6 [(0, .ref x0), (2, .int w27.2)]), W p l e R_X1_fill s m A below meth c H locs CE SE Q (F0 m 74 ls [])), W p l e R_X1_fill s m A below meth c H locs cl sl Q (F0 m 13 ls []) := by
    intro n
    induction n with
    | zero => intro f3 v4 v5 w27 hk0 cl sl hcl hsl H locs hS hF h_x0 h_x0r0 h_x0r1 h_x0r2 ls hl K74; exact lp_zero hk0
    | succ n ih =>
      intro f3 v4 v5 w27 hk0 cl sl hcl hsl H locs hS hF h_x0 h_x0r0 h_x0r1 h_x0r2 ls hl K74
      obtain ⟨z28, hz, hk⟩ := lp_step hk0
      have h := (congrFun (congrFun (congrFun (eF26) f3) v4) v5).symm.trans hz
      have hcO : cl + 6 ≤ CE := al_out hcl
      have hcE : cl + 6 ≤ R_X1_fill.cells := Nat.le_trans hcO hCE
      have hcN : ∀ a, a ≤ 6 → cl + a + 6 * n ≤ CE := fun a ha => al_next hcl ha
      have hcN0 : cl + 6 * n ≤ CE := al_next hcl (Nat.zero_le _)
      have hsO : sl + 85 ≤ SE := al_out hsl
      have hsE : sl + 85 ≤ R_X1_fill.slots := Nat.le_trans hsO hSE
      have hsN : ∀ a, a ≤ 85 → sl + a + 85 * n ≤ SE := fun a ha => al_next hsl ha
      have hsN0 : sl + 85 * n ≤ SE := al_next hsl (Nat.zero_le _)
      clear hcl hsl
      refine lv_iload_n hx hb dX1_fill_13 rfl (lv_at hl 3 rfl) ?_
      refine lv_bipush (v := 8) hx hb dX1_fill_14 (by decide) ?_
      refine lv_icmp_ge (tgt := 74) hx hb dX1_fill_16 (by decide) (fun c29 => ?_) (fun c29 => ?_)
      · have h := it_pos h c29
        obtain rfl := Option.some.inj h
        obtain rfl := id hk
        refine W.widen (k := CE) (n := SE) (by omega) (by omega) ?_
        exact K74 H locs hS hF h_x0 h_x0r0 h_x0r1 h_x0r2 ls (lv_sub hl [0, 2] rfl)
      · have h := it_neg h c29
        refine lv_aload_n hx hb dX1_fill_19 rfl (lv_at hl 0 rfl) ?_
        refine r_get hx hb hts hown hS h_x0.OA rfl in_X1 1 (by decide) q915 rfl (v := .ref x0r1) rfl dX1_fill_20 ?_
        refine lv_iload_n hx hb dX1_fill_23 rfl (lv_at hl 3 rfl) ?_
        obtain ⟨i30, xi30, h⟩ := gd_step (by decide) h
        refine r_dald hx hb hS h_x0r1 i30 xi30 dX1_fill_24 ?_
        obtain ⟨v31, ev31, h⟩ := ltd_step h
        refine r_nmD ev31 ?_
        refine lv_dstore (lv' := [(4, .double v31), (0, .ref x0), (1, .int x1), (2, .int v4), (3, .int v5)]) hx hb dX1_fill_25 hl (by decide) rfl (fun ls hl => ?_)
        refine lv_aload_n hx hb dX1_fill_27 rfl (lv_at hl 1 rfl) ?_
        refine r_get hx hb hts hown hS h_x0.OA rfl in_X1 1 (by decide) q915 rfl (v := .ref x0r1) rfl dX1_fill_28 ?_
        refine lv_iload_n hx hb dX1_fill_31 rfl (lv_at hl 4 rfl) ?_
        refine lv_iload_n hx hb dX1_fill_32 rfl (lv_at hl 2 rfl) ?_
        refine lv_aload_n hx hb dX1_fill_33 rfl (lv_at hl 1 rfl) ?_
        refine r_get hx hb hts hown hS h_x0.OA rfl in_X1 0 (by decide) q914 rfl (v := .ref x0r0) rfl dX1_fill_34 ?_
        refine lv_iload_n hx hb dX1_fill_37 rfl (lv_at hl 4 rfl) ?_
        obtain ⟨i32, xi32, h⟩ := gd_step (by decide) h
        refine r_dald hx hb hS h_x0r0 i32 xi32 dX1_fill_38 ?_
        obtain ⟨v33, ev33, h⟩ := ltd_step h
        refine r_nmD ev33 ?_
        obtain ⟨o34, eo34, h⟩ := bind_step h
        refine r_cd (r_runS (rest := [.int v5, .ref x0r1]) (As := [.int x1, .double v33]) hC 2 (m_X1_answer   x1 v33 o34 eo34) q1336 q1337 q46 q1338 hd_X1_answer rfl ⟨Nat.le_of_ble_eq_true rfl, Nat.le_of_ble_eq_true rfl⟩ hS trivial hl.1 rfl (Nat.le_of_ble_eq_true rfl) dX1_fill_39 ⟨by have := hcE; have := hsE; omega, by have := hcE; have := hsE; omega⟩) hS (fun b H locs hp hS hz => ?_)
        obtain ⟨eb_, hO⟩ := hp
        rw [eb_]
        have h_x0 := h_x0.ext hO
        have h_x0r0 := h_x0r0.ext hO
        have h_x0r1 := h_x0r1.ext hO
        have h_x0r2 := h_x0r2.ext hO
        have hF := hF.trans (hO.mono (fun _ _ z => z.elim))
        obtain ⟨i35, xi35, h⟩ := gd_step (by decide) h
        obtain ⟨f36, ef36, h⟩ := lt_step h
        refine r_dast hx hb hS h_x0r1 hB_h_x0r1 i35 xi35 dX1_fill_42 (fun H locs hS hO h_x0r1 => ?_)
        have h_x0r1 : aD D x0r1 8 f36 H := by rw [ef36]; exact h_x0r1
        have h_x0 := h_x0.off hO ne_x0_x0r1
        have h_x0r0 := h_x0r0.off hO ne_x0r0_x0r1
        have h_x0r2 := h_x0r2.off hO (Ne.symm ne_x0r1_x0r2)
        have hF := hF.fresh hO (fun a ha z => Or.inr (z))
        refine lv_iload_n hx hb dX1_fill_43 rfl (lv_at hl 3 rfl) ?_
        refine lv_dload hx hb dX1_fill_44 (lv_at hl 0 rfl) ?_
        refine lv_aload_n hx hb dX1_fill_46 rfl (lv_at hl 1 rfl) ?_
        refine r_get hx hb hts hown hS h_x0.OA rfl in_X1 1 (by decide) q915 rfl (v := .ref x0r1) rfl dX1_fill_47 ?_
        refine lv_iload_n hx hb dX1_fill_50 rfl (lv_at hl 4 rfl) ?_
        obtain ⟨i37, xi37, h⟩ := gd_step (by decide) h
        refine r_dald hx hb hS h_x0r1 i37 xi37 dX1_fill_51 ?_
        obtain ⟨v38, ev38, h⟩ := ltd_step h
        refine r_nmD ev38 ?_
        obtain ⟨o39, eo39, h⟩ := bind_step h
        refine r_cp (r_runS (rest := [.int v4]) (As := [.double v31, .double v38]) hC 2 (m_X1_isSame   v31 v38 o39 eo39) q1273 q1274 q46 q1275 hd_X1_isSame rfl ⟨Nat.le_of_ble_eq_true rfl, Nat.le_of_ble_eq_true rfl⟩ hS trivial hl.1 rfl (Nat.le_of_ble_eq_true rfl) dX1_fill_52 ⟨by have := hcE; have := hsE; omega, by have := hcE; have := hsE; omega⟩) ?_
        obtain ⟨K41, eK41, h⟩ := lt_step h
        have HK41 : ∀ (v40 : Bool) (h : K41 v40 = some z28) (H : Heap) (locs : List Loc) (hS : St D s H locs) (hF : Off (fun a => a = x0 ∨ a = x0r1) s.heap H) (h_x0 : ON D 0 x0 [.ref x0r0, .ref x0r1, .ref x0r2, .int x0f3, .int x0f4, .int x0f5, .int x0f6] H) (h_x0r0 : aD D x0r0 8 x0r0c H) (h_x0r1 : aD D x0r1 8 f36 H) (h_x0r2 : aZ D x0r2 8 x0r2c H) (ls : Array Slot) (hl : lv_has ls 6 [(0, .ref x0), (1, .int x1), (3, .int v5)]), W p l e R_X1_fill s m A below meth c H locs (cl + 6) (sl + 85) Q (F0 m 63 ls [.int (bI v40), .int v4]) := by
          intro v40 h H locs hS hF h_x0 h_x0r0 h_x0r1 h_x0r2 ls hl
          subst eK41
          obtain ⟨o42, eo42, h⟩ := bind_step h
          refine r_cp (r_runS (rest := [.int v4]) (As := [.int (bI v40)]) hC 1 (m_X1_bit   v40 o42 eo42) q389 q390 q46 q391 hd_X1_bit rfl ⟨Nat.le_of_ble_eq_true rfl, Nat.le_of_ble_eq_true rfl⟩ hS trivial hl.1 rfl (Nat.le_of_ble_eq_true rfl) dX1_fill_63 ⟨by have := hcE; have := hsE; omega, by have := hcE; have := hsE; omega⟩) ?_
          obtain ⟨v43, ev43, h⟩ := lti_step h
          refine r_iadd hx hb ev43 dX1_fill_66 ?_
          refine lv_istore_n (lv' := [(2, .int v43), (0, .ref x0), (1, .int x1), (3, .int v5)]) hx hb dX1_fill_67 rfl hl (by decide) rfl (fun ls hl => ?_)
          obtain ⟨v44, ev44, h⟩ := lti_step h
          refine lv_iinc (v := v44) (lv' := [(3, .int v44), (2, .int v43), (0, .ref x0), (1, .int x1)]) hx hb dX1_fill_68 hl (k := 3) rfl (by rw [ev44]; rfl) (by decide) rfl (fun ls hl => ?_)
          refine lv_goto (tgt := 13) hx hb dX1_fill_71 (by decide) ?_
          obtain rfl := Option.some.inj h
          exact ih f36 v43 v44 w27 hk _ _ (hcN 6 (Nat.le_of_ble_eq_true rfl)) (hsN 85 (Nat.le_of_ble_eq_true rfl)) H locs hS hF h_x0 h_x0r0 h_x0r1 h_x0r2 ls (lv_sub hl [2, 3, 1, 0] rfl) K74
        clear eK41
        refine r_ifz_ne (tgt := 62) hx hb dX1_fill_55 (by decide) (fun c45 => ?_) (fun c45 => ?_)
        · have h := it_pos h (by rw [c45])
          refine lv_iconst (v := 0) hx hb dX1_fill_62 (by decide) ?_
          exact HK41 false h H locs hS hF h_x0 h_x0r0 h_x0r1 h_x0r2 ls (lv_sub hl [1, 2, 4] rfl)
        · have h := it_neg h (by rw [c45]; decide)
          refine lv_iconst (v := 1) hx hb dX1_fill_58 (by decide) ?_
          refine lv_goto (tgt := 63) hx hb dX1_fill_59 (by decide) ?_
          exact HK41 true h H locs hS hF h_x0 h_x0r0 h_x0r1 h_x0r2 ls (lv_sub hl [1, 2, 4] rfl)
  clear eF26
  refine HL 9 x0r1c 0 0 w27 ew27 _ _ (Nat.le_of_eq eCE.symm) (Nat.le_of_eq eSE.symm) H locs hS hF h_x0 h_x0r0 h_x0r1 h_x0r2 ls (lv_sub hl [2, 3, 1, 0] rfl) (fun  H locs hS hF h_x0 h_x0r0 h_x0r1 h_x0r2 ls hl => ?_)
  rw [eCE, eSE]
  refine lv_aload_n hx hb dX1_fill_74 rfl (lv_at hl 0 rfl) ?_
  refine lv_dup hx hb dX1_fill_75 rfl ?_
  refine r_get hx hb hts hown hS h_x0.OA rfl in_X1 4 (by decide) q918 rfl (v := .int x0f4) rfl dX1_fill_76 ?_
  refine lv_iconst (v := 1) hx hb dX1_fill_79 (by decide) ?_
  obtain ⟨v46, ev46, h⟩ := lti_step h
  refine r_iadd hx hb ev46 dX1_fill_80 ?_
  refine r_put hx hb hts hown hS h_x0 hB_h_x0 rfl in_X1 tyX1 tyX1_ok nmX1 4 (Nat.le_of_ble_eq_true rfl) rfl q918 rfl rfl (v := .int v46) rfl (by rfl) dX1_fill_81 (fun H locs hS hO h_x0 => ?_)
  have h_x0 : ON D 0 x0 [.ref x0r0, .ref x0r1, .ref x0r2, .int x0f3, .int v46, .int x0f5, .int x0f6] H := h_x0
  have h_x0r0 := h_x0r0.off hO (Ne.symm ne_x0_x0r0)
  have h_x0r1 := h_x0r1.off hO (Ne.symm ne_x0_x0r1)
  have h_x0r2 := h_x0r2.off hO (Ne.symm ne_x0_x0r2)
  have hF := hF.fresh hO (fun a ha z => Or.inl z)
  refine lv_iload_n hx hb dX1_fill_84 rfl (lv_at hl 1 rfl) ?_
  obtain rfl := Option.some.inj h
  rw [eQ]
  exact r_iret hx hb hr hlk hS (Nat.le_of_ble_eq_true rfl) (Nat.le_of_ble_eq_true rfl) dX1_fill_85 ⟨_, rfl, rfl, h_x0, h_x0r1, hF⟩

abbrev R_X1_mustBeRow : Room := { frames := 1, cells := 0, slots := 0, locals := 22 }
noncomputable def f_X1_mustBeRow (x0 : Int32) (x1 : Int32) (x2 : Int32) : Option (Unit) :=
  Option.bind (f_X1_isIn x0 0 2) fun o1 =>
  lt (fun (v2 : Bool) =>
  Option.bind (f_X1_mustFit v2) fun o4 =>
  lti (x1 + x2) fun v5 =>
  lti (v5 - 1) fun v6 =>
  (if 32768 < v6 then
    Option.bind (f_X1_mustFit false) fun o8 =>
    some ()
  else
    Option.bind (f_X1_mustFit true) fun o9 =>
    some ()
  )
  ) fun K3 =>
  lt (fun (_u : Unit) =>
  K3 false
  ) fun K10 =>
  (if o1 = true then
    Option.bind (f_X1_isIn x1 (-32768) 32768) fun o12 =>
    (if o12 = true then
      Option.bind (f_X1_isIn x2 1 16) fun o14 =>
      (if o14 = true then
        K3 true
      else
        K10 ()
      )
    else
      K10 ()
    )
  else
    K10 ()
  )
theorem hd_X1_mustBeRow : Hd yX1_mustBeRow 3 := by unfold Hd; decide +kernel
set_option maxHeartbeats 4000000 in
set_option maxRecDepth 100000 in
theorem m_X1_mustBeRow {l : Launch} {D : DD}   (x0 : Int32) (x1 : Int32) (x2 : Int32) (r : Unit) (h : f_X1_mustBeRow x0 x1 x2 = some r) : MP l D yX1_mustBeRow cX1_mustBeRow 3 none 1 22 [.int x0, .int x1, .int x2] NoPre none := by
  refine MP.start (by decide +kernel) (Nat.le_of_ble_eq_true rfl) ?_
  intro p e s m below meth c ls hC hS hp hl
  obtain ⟨hx, hb, hr, hlk, hml, hown, hts, hnm⟩ := id hC
  have hl : lv_has ls 3 [(0, .int x0), (1, .int x1), (2, .int x2)] := hl
  unfold f_X1_mustBeRow at h
  have hS0 := hS
  obtain ⟨A, eA⟩ : ∃ A : Array Value, A = [.int x0, .int x1, .int x2].toArray := ⟨_, rfl⟩
  rw [← eA] at hC hts ⊢
  obtain ⟨Q, eQ⟩ : ∃ Q : State → Prop, Q = MQ below (PQ none) A s 0 0 (fun _ => False) := ⟨_, rfl⟩
  show W p l e R_X1_mustBeRow s m A below meth c s.heap [] 0 0 _ _
  rw [← eQ]
  refine lv_iload_n hx hb dX1_mustBeRow_0 rfl (lv_at hl 0 rfl) ?_
  refine lv_iconst (v := 0) hx hb dX1_mustBeRow_1 (by decide) ?_
  refine lv_iconst (v := 2) hx hb dX1_mustBeRow_2 (by decide) ?_
  obtain ⟨o1, eo1, h⟩ := bind_step h
  refine r_cp (r_runS (rest := []) (As := [.int x0, .int 0, .int 2]) hC 3 (m_X1_isIn   x0 0 2 o1 eo1) q395 q396 q46 q397 hd_X1_isIn rfl ⟨Nat.le_of_ble_eq_true rfl, Nat.le_of_ble_eq_true rfl⟩ hS trivial hl.1 rfl (Nat.le_of_ble_eq_true rfl) dX1_mustBeRow_3 ⟨Nat.le_of_ble_eq_true rfl, Nat.le_of_ble_eq_true rfl⟩) ?_
  obtain ⟨K3, eK3, h⟩ := lt_step h
  have HK3 : ∀ (v2 : Bool) (h : K3 v2 = some r)  (ls : Array Slot) (hl : lv_has ls 3 [(1, .int x1), (2, .int x2)]), W p l e R_X1_mustBeRow s m A below meth c s.heap [] 0 0 Q (F0 m 36 ls [.int (bI v2)]) := by
    intro v2 h  ls hl
    subst eK3
    obtain ⟨o4, eo4, h⟩ := bind_step h
    refine r_cpv (r_runS (rest := []) (As := [.int (bI v2)]) hC 1 (m_X1_mustFit   v2 o4 eo4) q1230 q1231 q46 q1232 hd_X1_mustFit rfl ⟨Nat.le_of_ble_eq_true rfl, Nat.le_of_ble_eq_true rfl⟩ hS trivial hl.1 rfl (Nat.le_of_ble_eq_true rfl) dX1_mustBeRow_36 ⟨Nat.le_of_ble_eq_true rfl, Nat.le_of_ble_eq_true rfl⟩) ?_
    refine lv_iload_n hx hb dX1_mustBeRow_39 rfl (lv_at hl 0 rfl) ?_
    refine lv_iload_n hx hb dX1_mustBeRow_40 rfl (lv_at hl 1 rfl) ?_
    obtain ⟨v5, ev5, h⟩ := lti_step h
    refine r_iadd hx hb ev5 dX1_mustBeRow_41 ?_
    refine lv_iconst (v := 1) hx hb dX1_mustBeRow_42 (by decide) ?_
    obtain ⟨v6, ev6, h⟩ := lti_step h
    refine r_isub hx hb ev6 dX1_mustBeRow_43 ?_
    refine lv_ldc hx hb (v := 32768) hown (hts _ q1352) dX1_mustBeRow_44 ?_
    refine lv_icmp_gt (tgt := 53) hx hb dX1_mustBeRow_46 (by decide) (fun c7 => ?_) (fun c7 => ?_)
    · have h := it_pos h c7
      refine lv_iconst (v := 0) hx hb dX1_mustBeRow_53 (by decide) ?_
      obtain ⟨o8, eo8, h⟩ := bind_step h
      refine r_cpv (r_runS (rest := []) (As := [.int 0]) hC 1 (m_X1_mustFit   false o8 eo8) q1230 q1231 q46 q1232 hd_X1_mustFit rfl ⟨Nat.le_of_ble_eq_true rfl, Nat.le_of_ble_eq_true rfl⟩ hS trivial hl.1 rfl (Nat.le_of_ble_eq_true rfl) dX1_mustBeRow_54 ⟨Nat.le_of_ble_eq_true rfl, Nat.le_of_ble_eq_true rfl⟩) ?_
      obtain rfl := Option.some.inj h
      rw [eQ]
      exact p_vret hx hb hr hlk dX1_mustBeRow_57
    · have h := it_neg h c7
      refine lv_iconst (v := 1) hx hb dX1_mustBeRow_49 (by decide) ?_
      refine lv_goto (tgt := 54) hx hb dX1_mustBeRow_50 (by decide) ?_
      obtain ⟨o9, eo9, h⟩ := bind_step h
      refine r_cpv (r_runS (rest := []) (As := [.int 1]) hC 1 (m_X1_mustFit   true o9 eo9) q1230 q1231 q46 q1232 hd_X1_mustFit rfl ⟨Nat.le_of_ble_eq_true rfl, Nat.le_of_ble_eq_true rfl⟩ hS trivial hl.1 rfl (Nat.le_of_ble_eq_true rfl) dX1_mustBeRow_54 ⟨Nat.le_of_ble_eq_true rfl, Nat.le_of_ble_eq_true rfl⟩) ?_
      obtain rfl := Option.some.inj h
      rw [eQ]
      exact p_vret hx hb hr hlk dX1_mustBeRow_57
  clear eK3
  obtain ⟨K10, eK10, h⟩ := lt_step h
  have HK10 : ∀  (h : K10 () = some r)  (ls : Array Slot) (hl : lv_has ls 3 [(1, .int x1), (2, .int x2)]), W p l e R_X1_mustBeRow s m A below meth c s.heap [] 0 0 Q (F0 m 35 ls []) := by
    intro h  ls hl
    subst eK10
    refine lv_iconst (v := 0) hx hb dX1_mustBeRow_35 (by decide) ?_
    exact HK3 false h  ls (lv_sub hl [0, 1] rfl)
  clear eK10
  refine r_ifz_eq (tgt := 35) hx hb dX1_mustBeRow_6 (by decide) (fun c11 => ?_) (fun c11 => ?_)
  · have h := it_neg h (by rw [c11]; decide)
    exact HK10  h  ls (lv_sub hl [1, 2] rfl)
  · have h := it_pos h (by rw [c11])
    refine lv_iload_n hx hb dX1_mustBeRow_9 rfl (lv_at hl 1 rfl) ?_
    refine lv_sipush (v := (-32768)) hx hb dX1_mustBeRow_10 (by decide) ?_
    refine lv_ldc hx hb (v := 32768) hown (hts _ q1352) dX1_mustBeRow_13 ?_
    obtain ⟨o12, eo12, h⟩ := bind_step h
    refine r_cp (r_runS (rest := []) (As := [.int x1, .int (-32768), .int 32768]) hC 3 (m_X1_isIn   x1 (-32768) 32768 o12 eo12) q395 q396 q46 q397 hd_X1_isIn rfl ⟨Nat.le_of_ble_eq_true rfl, Nat.le_of_ble_eq_true rfl⟩ hS trivial hl.1 rfl (Nat.le_of_ble_eq_true rfl) dX1_mustBeRow_15 ⟨Nat.le_of_ble_eq_true rfl, Nat.le_of_ble_eq_true rfl⟩) ?_
    refine r_ifz_eq (tgt := 35) hx hb dX1_mustBeRow_18 (by decide) (fun c13 => ?_) (fun c13 => ?_)
    · have h := it_neg h (by rw [c13]; decide)
      exact HK10  h  ls (lv_sub hl [1, 2] rfl)
    · have h := it_pos h (by rw [c13])
      refine lv_iload_n hx hb dX1_mustBeRow_21 rfl (lv_at hl 2 rfl) ?_
      refine lv_iconst (v := 1) hx hb dX1_mustBeRow_22 (by decide) ?_
      refine lv_bipush (v := 16) hx hb dX1_mustBeRow_23 (by decide) ?_
      obtain ⟨o14, eo14, h⟩ := bind_step h
      refine r_cp (r_runS (rest := []) (As := [.int x2, .int 1, .int 16]) hC 3 (m_X1_isIn   x2 1 16 o14 eo14) q395 q396 q46 q397 hd_X1_isIn rfl ⟨Nat.le_of_ble_eq_true rfl, Nat.le_of_ble_eq_true rfl⟩ hS trivial hl.1 rfl (Nat.le_of_ble_eq_true rfl) dX1_mustBeRow_25 ⟨Nat.le_of_ble_eq_true rfl, Nat.le_of_ble_eq_true rfl⟩) ?_
      refine r_ifz_eq (tgt := 35) hx hb dX1_mustBeRow_28 (by decide) (fun c15 => ?_) (fun c15 => ?_)
      · have h := it_neg h (by rw [c15]; decide)
        exact HK10  h  ls (lv_sub hl [1, 2] rfl)
      · have h := it_pos h (by rw [c15])
        refine lv_iconst (v := 1) hx hb dX1_mustBeRow_31 (by decide) ?_
        refine lv_goto (tgt := 36) hx hb dX1_mustBeRow_32 (by decide) ?_
        exact HK3 true h  ls (lv_sub hl [1, 2] rfl)

abbrev R_X1_ahead : Room := { frames := 10, cells := 102, slots := 1445, locals := 1433 }
noncomputable def f_X1_ahead (x0r0c : Nat → UInt64) (x0r1c : Nat → UInt64) (x0r2c : Nat → Int32) (x0f3 : Int32) (x0f4 : Int32) (x0f5 : Int32) (x0f6 : Int32) (x1 : Int32) (x2 : Int32) (x3 : Int32) (x4 : Int32) : Option (Int32) :=
  Option.bind (f_X1_heightAt x0r0c x0r1c x0r2c x0f3 x0f4 x0f5 x0f6 x4) fun o1 =>
  Option.bind (f_X1_mustBeRow x1 x2 x3) fun o2 =>
  lt (fun (v3 : Int32) (v4 : Int32) =>
  (show Option (Sum (Int32 × Int32) (Int32)) from (
  lti (x2 + x3) fun v22 =>
  (if v22 ≤ v4 then
    some (.inr v3)
  else
    ltd (i2dF v4) fun v24 =>
    ck (dmulF v24 4593671619917905920) fun v25 =>
    Option.bind (f_X1_answer x1 v25) fun o26 =>
    Option.bind (f_J10_compare o26 o1) fun o27 =>
    lt (fun (v28 : Bool) =>
    Option.bind (f_X1_bit v28) fun o30 =>
    lti (v3 + o30) fun v31 =>
    lti (v4 + 1) fun v32 =>
    some (.inl (v31, v32))
    ) fun K29 =>
    (if 0 ≤ o27 then
      K29 false
    else
      K29 true
    )
  )
  ))
  ) fun F19 =>
  Option.bind (lp 17 (fun x => F19 x.1 x.2) (0, x2)) fun w20 =>
  some w20
theorem hd_X1_ahead : Hd yX1_ahead 4 := by unfold Hd; decide +kernel
set_option maxHeartbeats 4000000 in
set_option maxRecDepth 100000 in
theorem m_X1_ahead {l : Launch} {D : DD} (x0 : Nat) (x0r0 : Nat) (x0r1 : Nat) (x0r2 : Nat)  (x0r0c : Nat → UInt64) (x0r1c : Nat → UInt64) (x0r2c : Nat → Int32) (x0f3 : Int32) (x0f4 : Int32) (x0f5 : Int32) (x0f6 : Int32) (x1 : Int32) (x2 : Int32) (x3 : Int32) (x4 : Int32) (r : Int32) (h : f_X1_ahead x0r0c x0r1c x0r2c x0f3 x0f4 x0f5 x0f6 x1 x2 x3 x4 = some r) : MT l D yX1_ahead cX1_ahead 9 (some .int) 10 1433 102 1445 [.ref x0, .int x1, .int x2, .int x3, .int x4] (fun H => ON D 0 x0 [.ref x0r0, .ref x0r1, .ref x0r2, .int x0f3, .int x0f4, .int x0f5, .int x0f6] H ∧ aD D x0r0 8 x0r0c H ∧ aD D x0r1 8 x0r1c H ∧ aZ D x0r2 8 x0r2c H) (pI (fun H b H' => b = r ∧ Off (fun _ => False) H H')) := by
  refine MT.start (by decide +kernel) (Nat.le_of_ble_eq_true rfl) ?_
  intro p e s m below meth c ls hC hS hp hl
  obtain ⟨h_x0, h_x0r0, h_x0r1, h_x0r2⟩ := hp
  obtain ⟨hx, hb, hr, hlk, hml, hown, hts, hnm⟩ := id hC
  have hl : lv_has ls 9 [(0, .ref x0), (1, .int x1), (2, .int x2), (3, .int x3), (4, .int x4)] := hl
  unfold f_X1_ahead at h
  have hS0 := hS
  obtain ⟨A, eA⟩ : ∃ A : Array Value, A = [.ref x0, .int x1, .int x2, .int x3, .int x4].toArray := ⟨_, rfl⟩
  rw [← eA] at hC hts ⊢
  obtain ⟨Q, eQ⟩ : ∃ Q : State → Prop, Q = MQ below (TQ D (pI (fun H b H' => b = r ∧ Off (fun _ => False) H H'))) A s 102 1445 (fun q => dB D ≤ q) := ⟨_, rfl⟩
  have hF : Off (fun _ => False) s.heap s.heap := Off.rf
  show W p l e R_X1_ahead s m A below meth c s.heap [] 0 0 _ _
  rw [← eQ]
  obtain ⟨H, eH⟩ : ∃ H : Heap, H = s.heap := ⟨_, rfl⟩
  obtain ⟨locs, eLc⟩ : ∃ L : List Loc, L = [] := ⟨_, rfl⟩
  have lt_h_x0 := h_x0.lt
  have lt_h_x0r0 := h_x0r0.lt
  have lt_h_x0r1 := h_x0r1.lt
  have lt_h_x0r2 := h_x0r2.lt
  rw [← eH, ← eLc]
  have hF : Off (fun _ => False) s.heap H := by rw [eH]; exact hF
  rw [← eH] at h_x0
  rw [← eH] at h_x0r0
  rw [← eH] at h_x0r1
  rw [← eH] at h_x0r2
  have hS : St D s H locs := by rw [eH, eLc]; exact hS
  refine lv_aload_n hx hb dX1_ahead_0 rfl (lv_at hl 0 rfl) ?_
  refine lv_iload hx hb dX1_ahead_1 (lv_at hl 4 rfl) ?_
  obtain ⟨o1, eo1, h⟩ := bind_step h
  refine r_cp (r_runV (rest := []) (As := [.int x4]) hC 1 (m_X1_heightAt x0 x0r0 x0r1 x0r2  x0r0c x0r1c x0r2c x0f3 x0f4 x0f5 x0f6 x4 o1 eo1) q1202 q1204 qs13 q46 q1205 (OA.recv hS h_x0.OA (C := RX1) rfl) hd_X1_heightAt rfl ⟨Nat.le_of_ble_eq_true rfl, Nat.le_of_ble_eq_true rfl⟩ hS ⟨h_x0, h_x0r0, h_x0r1, h_x0r2⟩ hl.1 rfl (Nat.le_of_ble_eq_true rfl) dX1_ahead_3 ⟨Nat.le_of_ble_eq_true rfl, Nat.le_of_ble_eq_true rfl⟩) ?_
  refine lv_dstore (lv' := [(5, .double o1), (0, .ref x0), (1, .int x1), (2, .int x2), (3, .int x3), (4, .int x4)]) hx hb dX1_ahead_6 hl (by decide) rfl (fun ls hl => ?_)
  refine lv_iload_n hx hb dX1_ahead_8 rfl (lv_at hl 2 rfl) ?_
  refine lv_iload_n hx hb dX1_ahead_9 rfl (lv_at hl 3 rfl) ?_
  refine lv_iload_n hx hb dX1_ahead_10 rfl (lv_at hl 4 rfl) ?_
  obtain ⟨o2, eo2, h⟩ := bind_step h
  refine r_cpv (r_runS (rest := []) (As := [.int x1, .int x2, .int x3]) hC 3 (m_X1_mustBeRow   x1 x2 x3 o2 eo2) q1390 q1391 q46 q1392 hd_X1_mustBeRow rfl ⟨Nat.le_of_ble_eq_true rfl, Nat.le_of_ble_eq_true rfl⟩ hS trivial hl.1 rfl (Nat.le_of_ble_eq_true rfl) dX1_ahead_11 ⟨Nat.le_of_ble_eq_true rfl, Nat.le_of_ble_eq_true rfl⟩) ?_
  refine lv_iconst (v := 0) hx hb dX1_ahead_14 (by decide) ?_
  refine lv_istore (lv' := [(7, .int 0), (5, .double o1), (0, .ref x0), (1, .int x1), (2, .int x2), (3, .int x3), (4, .int x4)]) hx hb dX1_ahead_15 hl (by decide) rfl (fun ls hl => ?_)
  refine lv_iload_n hx hb dX1_ahead_17 rfl (lv_at hl 4 rfl) ?_
  refine lv_istore (lv' := [(8, .int x2), (7, .int 0), (5, .double o1), (0, .ref x0), (1, .int x1), (2, .int x2), (3, .int x3), (4, .int x4)]) hx hb dX1_ahead_18 hl (by decide) rfl (fun ls hl => ?_)
  obtain ⟨F19, eF19, h⟩ := lt_step h
  obtain ⟨w20, ew20, h⟩ := bind_step h
  obtain ⟨CE, eCE⟩ : ∃ x : Nat, x = 0 + 102 := ⟨_, rfl⟩
  obtain ⟨SE, eSE⟩ : ∃ x : Nat, x = 0 + 1445 := ⟨_, rfl⟩
  have hCE : CE ≤ R_X1_ahead.cells := (by rw [eCE]; exact Nat.le_of_ble_eq_true rfl)
  have hSE : SE ≤ R_X1_ahead.slots := (by rw [eSE]; exact Nat.le_of_ble_eq_true rfl)
  have HL : ∀ (n : Nat) (v3 : Int32) (v4 : Int32) (w20 : Int32) (hk0 : lp n (fun x => F19 x.1 x.2) (v3, v4) = some w20) (cl : Nat) (sl : Nat) (hcl : cl + 6 * n ≤ CE) (hsl : sl + 85 * n ≤ SE) (H : Heap) (locs : List Loc) (hS : St D s H locs) (hF : Off (fun _ => False) s.heap H) (h_x0 : ON D 0 x0 [.ref x0r0, .ref x0r1, .ref x0r2, .int x0f3, .int x0f4, .int x0f5, .int x0f6] H) (h_x0r0 : aD D x0r0 8 x0r0c H) (h_x0r1 : aD D x0r1 8 x0r1c H) (h_x0r2 : aZ D x0r2 8 x0r2c H) (ls : Array Slot) (hl : lv_has ls 9 [(1, .int x1), (2, .int x2), (3, .int x3), (5, .double o1), (7, .int v3), (8, .int v4)]) (K66 : ∀ (H : Heap) (locs : List Loc) (hS : St D s H locs) (hF : Off (fun _ => False) s.heap H) (h_x0 : ON D 0 x0 [.ref x0r0, .ref x0r1, .ref x0r2, .int x0f3, .int x0f4, .int x0f5, .int x0f6] H) (h_x0r0 : aD D x0r0 8 x0r0c H) (h_x0r1 : aD D x0r1 8 x0r1c H) (h_x0r2 : aZ D x0r2 8 x0r2c H) (ls : Array Slot) (hl : lv_has ls 9 [(7, .int w20)]), W p l e R_X1_ahead s m A below meth c H locs CE SE Q (F0 m 66 ls [])), W p l e R_X1_ahead s m A below meth c H locs cl sl Q (F0 m 20 ls []) := by
    intro n
    induction n with
    | zero => intro v3 v4 w20 hk0 cl sl hcl hsl H locs hS hF h_x0 h_x0r0 h_x0r1 h_x0r2 ls hl K66; exact lp_zero hk0
    | succ n ih =>
      intro v3 v4 w20 hk0 cl sl hcl hsl H locs hS hF h_x0 h_x0r0 h_x0r1 h_x0r2 ls hl K66
      obtain ⟨z21, hz, hk⟩ := lp_step hk0
      have h := (congrFun (congrFun (eF19) v3) v4).symm.trans hz
      have hcO : cl + 6 ≤ CE := al_out hcl
      have hcE : cl + 6 ≤ R_X1_ahead.cells := Nat.le_trans hcO hCE
      have hcN : ∀ a, a ≤ 6 → cl + a + 6 * n ≤ CE := fun a ha => al_next hcl ha
      have hcN0 : cl + 6 * n ≤ CE := al_next hcl (Nat.zero_le _)
      have hsO : sl + 85 ≤ SE := al_out hsl
      have hsE : sl + 85 ≤ R_X1_ahead.slots := Nat.le_trans hsO hSE
      have hsN : ∀ a, a ≤ 85 → sl + a + 85 * n ≤ SE := fun a ha => al_next hsl ha
      have hsN0 : sl + 85 * n ≤ SE := al_next hsl (Nat.zero_le _)
      clear hcl hsl
      refine lv_iload hx hb dX1_ahead_20 (lv_at hl 5 rfl) ?_
      refine lv_iload_n hx hb dX1_ahead_22 rfl (lv_at hl 1 rfl) ?_
      refine lv_iload_n hx hb dX1_ahead_23 rfl (lv_at hl 2 rfl) ?_
      obtain ⟨v22, ev22, h⟩ := lti_step h
      refine r_iadd hx hb ev22 dX1_ahead_24 ?_
      refine lv_icmp_ge (tgt := 66) hx hb dX1_ahead_25 (by decide) (fun c23 => ?_) (fun c23 => ?_)
      · have h := it_pos h c23
        obtain rfl := Option.some.inj h
        obtain rfl := id hk
        refine W.widen (k := CE) (n := SE) (by omega) (by omega) ?_
        exact K66 H locs hS hF h_x0 h_x0r0 h_x0r1 h_x0r2 ls (lv_sub hl [4] rfl)
      · have h := it_neg h c23
        refine lv_iload hx hb dX1_ahead_28 (lv_at hl 4 rfl) ?_
        refine lv_iload_n hx hb dX1_ahead_30 rfl (lv_at hl 0 rfl) ?_
        refine lv_iload hx hb dX1_ahead_31 (lv_at hl 5 rfl) ?_
        obtain ⟨v24, ev24, h⟩ := ltd_step h
        refine r_i2d hx hb ev24 dX1_ahead_33 ?_
        refine lv_ldc2d hx hb (v := 4593671619917905920) hown (hts _ q910) dX1_ahead_34 ?_
        obtain ⟨v25, ev25, nv25, h⟩ := ck_step h
        refine r_dmul hx hb ev25 nv25 dX1_ahead_37 ?_
        obtain ⟨o26, eo26, h⟩ := bind_step h
        refine r_cd (r_runS (rest := [.int v3]) (As := [.int x1, .double v25]) hC 2 (m_X1_answer   x1 v25 o26 eo26) q1336 q1337 q46 q1338 hd_X1_answer rfl ⟨Nat.le_of_ble_eq_true rfl, Nat.le_of_ble_eq_true rfl⟩ hS trivial hl.1 rfl (Nat.le_of_ble_eq_true rfl) dX1_ahead_38 ⟨by have := hcE; have := hsE; omega, by have := hcE; have := hsE; omega⟩) hS (fun b H locs hp hS hz => ?_)
        obtain ⟨eb_, hO⟩ := hp
        rw [eb_]
        have h_x0 := h_x0.ext hO
        have h_x0r0 := h_x0r0.ext hO
        have h_x0r1 := h_x0r1.ext hO
        have h_x0r2 := h_x0r2.ext hO
        have hF := hF.trans (hO.mono (fun _ _ z => z.elim))
        refine lv_dload hx hb dX1_ahead_41 (lv_at hl 3 rfl) ?_
        obtain ⟨o27, eo27, h⟩ := bind_step h
        refine r_cp (r_runS (rest := [.int v3]) (As := [.double o26, .double o1]) hC 2 (m_J10_compare   o26 o1 o27 eo27) q1294 q1295 q51 q1296 hd_J10_compare rfl ⟨Nat.le_of_ble_eq_true rfl, Nat.le_of_ble_eq_true rfl⟩ hS trivial hl.1 rfl (Nat.le_of_ble_eq_true rfl) dX1_ahead_43 ⟨by have := hcE; have := hsE; omega, by have := hcE; have := hsE; omega⟩) ?_
        obtain ⟨K29, eK29, h⟩ := lt_step h
        have HK29 : ∀ (v28 : Bool) (h : K29 v28 = some z21) (H : Heap) (locs : List Loc) (hS : St D s H locs) (hF : Off (fun _ => False) s.heap H) (h_x0 : ON D 0 x0 [.ref x0r0, .ref x0r1, .ref x0r2, .int x0f3, .int x0f4, .int x0f5, .int x0f6] H) (h_x0r0 : aD D x0r0 8 x0r0c H) (h_x0r1 : aD D x0r1 8 x0r1c H) (h_x0r2 : aZ D x0r2 8 x0r2c H) (ls : Array Slot) (hl : lv_has ls 9 [(1, .int x1), (2, .int x2), (3, .int x3), (5, .double o1), (8, .int v4)]), W p l e R_X1_ahead s m A below meth c H locs (cl + 6) (sl + 85) Q (F0 m 54 ls [.int (bI v28), .int v3]) := by
          intro v28 h H locs hS hF h_x0 h_x0r0 h_x0r1 h_x0r2 ls hl
          subst eK29
          obtain ⟨o30, eo30, h⟩ := bind_step h
          refine r_cp (r_runS (rest := [.int v3]) (As := [.int (bI v28)]) hC 1 (m_X1_bit   v28 o30 eo30) q389 q390 q46 q391 hd_X1_bit rfl ⟨Nat.le_of_ble_eq_true rfl, Nat.le_of_ble_eq_true rfl⟩ hS trivial hl.1 rfl (Nat.le_of_ble_eq_true rfl) dX1_ahead_54 ⟨by have := hcE; have := hsE; omega, by have := hcE; have := hsE; omega⟩) ?_
          obtain ⟨v31, ev31, h⟩ := lti_step h
          refine r_iadd hx hb ev31 dX1_ahead_57 ?_
          refine lv_istore (lv' := [(7, .int v31), (1, .int x1), (2, .int x2), (3, .int x3), (5, .double o1), (8, .int v4)]) hx hb dX1_ahead_58 hl (by decide) rfl (fun ls hl => ?_)
          obtain ⟨v32, ev32, h⟩ := lti_step h
          refine lv_iinc (v := v32) (lv' := [(8, .int v32), (7, .int v31), (1, .int x1), (2, .int x2), (3, .int x3), (5, .double o1)]) hx hb dX1_ahead_60 hl (k := 5) rfl (by rw [ev32]; rfl) (by decide) rfl (fun ls hl => ?_)
          refine lv_goto (tgt := 20) hx hb dX1_ahead_63 (by decide) ?_
          obtain rfl := Option.some.inj h
          exact ih v31 v32 w20 hk _ _ (hcN 6 (Nat.le_of_ble_eq_true rfl)) (hsN 85 (Nat.le_of_ble_eq_true rfl)) H locs hS hF h_x0 h_x0r0 h_x0r1 h_x0r2 ls (lv_sub hl [2, 3, 4, 5, 1, 0] rfl) K66
        clear eK29
        refine lv_if_ge (tgt := 53) hx hb dX1_ahead_46 (by decide) (fun c33 => ?_) (fun c33 => ?_)
        · have h := it_pos h c33
          refine lv_iconst (v := 0) hx hb dX1_ahead_53 (by decide) ?_
          exact HK29 false h H locs hS hF h_x0 h_x0r0 h_x0r1 h_x0r2 ls (lv_sub hl [0, 1, 2, 3, 5] rfl)
        · have h := it_neg h c33
          refine lv_iconst (v := 1) hx hb dX1_ahead_49 (by decide) ?_
          refine lv_goto (tgt := 54) hx hb dX1_ahead_50 (by decide) ?_
          exact HK29 true h H locs hS hF h_x0 h_x0r0 h_x0r1 h_x0r2 ls (lv_sub hl [0, 1, 2, 3, 5] rfl)
  clear eF19
  refine HL 17 0 x2 w20 ew20 _ _ (Nat.le_of_eq eCE.symm) (Nat.le_of_eq eSE.symm) H locs hS hF h_x0 h_x0r0 h_x0r1 h_x0r2 ls (lv_sub hl [4, 5, 6, 2, 1, 0] rfl) (fun  H locs hS hF h_x0 h_x0r0 h_x0r1 h_x0r2 ls hl => ?_)
  rw [eCE, eSE]
  refine lv_iload hx hb dX1_ahead_66 (lv_at hl 0 rfl) ?_
  obtain rfl := Option.some.inj h
  rw [eQ]
  exact r_iret hx hb hr hlk hS (Nat.le_of_ble_eq_true rfl) (Nat.le_of_ble_eq_true rfl) dX1_ahead_68 ⟨_, rfl, rfl, hF⟩

abbrev R_X1_isSameBy : Room := { frames := 4, cells := 0, slots := 0, locals := 86 }
noncomputable def f_X1_isSameBy (x0f0 : UInt64) (x1f0 : UInt64) (x2 : Int32) : Option (Bool) :=
  (if x2 = 0 then
    Option.bind (f_J10_equals x0f0 x1f0) fun o5 =>
    some o5
  else
    (if x2 = 1 then
      Option.bind (f_J10_equals x0f0 x1f0) fun o4 =>
      some o4
    else
      Option.bind (f_J17_equals x0f0 x1f0) fun o3 =>
      some o3
    )
  )
theorem hd_X1_isSameBy : Hd yX1_isSameBy 3 := by unfold Hd; decide +kernel
set_option maxHeartbeats 4000000 in
set_option maxRecDepth 100000 in
theorem m_X1_isSameBy {l : Launch} {D : DD} (x0 : Nat) (x1 : Nat)  (x0f0 : UInt64) (x1f0 : UInt64) (x2 : Int32) (r : Bool) (h : f_X1_isSameBy x0f0 x1f0 x2 = some r) : MP l D yX1_isSameBy cX1_isSameBy 4 (some .boolean) 4 86 [.ref x0, .ref x1, .int x2] (fun H => OA D 5 x0 [.double x0f0] H ∧ OA D 5 x1 [.double x1f0] H ∧ x0 ≠ x1) (some (.int (bI r))) := by
  refine MP.start (by decide +kernel) (Nat.le_of_ble_eq_true rfl) ?_
  intro p e s m below meth c ls hC hS hp hl
  obtain ⟨h_x0, h_x1, ne_x0_x1⟩ := hp
  obtain ⟨hx, hb, hr, hlk, hml, hown, hts, hnm⟩ := id hC
  have hl : lv_has ls 4 [(0, .ref x0), (1, .ref x1), (2, .int x2)] := hl
  unfold f_X1_isSameBy at h
  have hS0 := hS
  obtain ⟨A, eA⟩ : ∃ A : Array Value, A = [.ref x0, .ref x1, .int x2].toArray := ⟨_, rfl⟩
  rw [← eA] at hC hts ⊢
  obtain ⟨Q, eQ⟩ : ∃ Q : State → Prop, Q = MQ below (PQ (some (.int (bI r)))) A s 0 0 (fun _ => False) := ⟨_, rfl⟩
  show W p l e R_X1_isSameBy s m A below meth c s.heap [] 0 0 _ _
  rw [← eQ]
  refine lv_aload_n hx hb dX1_isSameBy_0 rfl (lv_at hl 0 rfl) ?_
  refine lv_astore_n (lv' := [(3, .ref x0), (0, .ref x0), (1, .ref x1), (2, .int x2)]) hx hb dX1_isSameBy_1 rfl hl (by decide) rfl (fun ls hl => ?_)
  refine lv_iload_n hx hb dX1_isSameBy_2 rfl (lv_at hl 3 rfl) ?_
  refine lv_if_ne (tgt := 14) hx hb dX1_isSameBy_3 (by decide) (fun c1 => ?_) (fun c1 => ?_)
  · have h := it_neg h c1
    refine lv_iload_n hx hb dX1_isSameBy_14 rfl (lv_at hl 3 rfl) ?_
    refine lv_iconst (v := 1) hx hb dX1_isSameBy_15 (by decide) ?_
    refine lv_icmp_ne (tgt := 27) hx hb dX1_isSameBy_16 (by decide) (fun c2 => ?_) (fun c2 => ?_)
    · have h := it_neg h c2
      refine lv_aload_n hx hb dX1_isSameBy_27 rfl (lv_at hl 1 rfl) ?_
      refine lv_aload_n hx hb dX1_isSameBy_28 rfl (lv_at hl 2 rfl) ?_
      obtain ⟨o3, eo3, h⟩ := bind_step h
      refine r_cp (r_runS (rest := []) (As := [.ref x0, .ref x1]) hC 2 (m_J17_equals x0 x1  x0f0 x1f0 o3 eo3) q1454 q1455 q59 q1456 hd_J17_equals rfl ⟨Nat.le_of_ble_eq_true rfl, Nat.le_of_ble_eq_true rfl⟩ hS ⟨h_x0, h_x1, ne_x0_x1⟩ hl.1 rfl (Nat.le_of_ble_eq_true rfl) dX1_isSameBy_29 ⟨Nat.le_of_ble_eq_true rfl, Nat.le_of_ble_eq_true rfl⟩) ?_
      obtain rfl := Option.some.inj h
      rw [eQ]
      exact p_zret hx hb hr hlk (narB _) dX1_isSameBy_32 rfl
    · have h := it_pos h c2
      refine lv_aload_n hx hb dX1_isSameBy_19 rfl (lv_at hl 0 rfl) ?_
      refine lv_aload_n hx hb dX1_isSameBy_20 rfl (lv_at hl 2 rfl) ?_
      obtain ⟨o4, eo4, h⟩ := bind_step h
      refine r_cp (r_runO (rest := []) (As := [.ref x1]) hC 1 (m_J10_equals x0 x1  x0f0 x1f0 o4 eo4) q1430 q1432 q1431 q1437 q1427 q51 q1429 q1453 (OA.recv hS h_x0 (C := RJ10) rfl) ⟨by decide, by decide, by decide +kernel⟩  rfl ⟨Nat.le_of_ble_eq_true rfl, Nat.le_of_ble_eq_true rfl⟩ hS ⟨h_x0, h_x1⟩ hl.1 rfl (Nat.le_of_ble_eq_true rfl) dX1_isSameBy_21 ⟨Nat.le_of_ble_eq_true rfl, Nat.le_of_ble_eq_true rfl⟩) ?_
      refine lv_goto (tgt := 32) hx hb dX1_isSameBy_24 (by decide) ?_
      obtain rfl := Option.some.inj h
      rw [eQ]
      exact p_zret hx hb hr hlk (narB _) dX1_isSameBy_32 rfl
  · have h := it_pos h c1
    refine lv_aload_n hx hb dX1_isSameBy_6 rfl (lv_at hl 1 rfl) ?_
    refine lv_aload_n hx hb dX1_isSameBy_7 rfl (lv_at hl 2 rfl) ?_
    obtain ⟨o5, eo5, h⟩ := bind_step h
    refine r_cp (r_runV (rest := []) (As := [.ref x1]) hC 1 (m_J10_equals x0 x1  x0f0 x1f0 o5 eo5) q1426 q1427 q1428 q51 q1429 (OA.recv hS h_x0 (C := RJ10) rfl) hd_J10_equals rfl ⟨Nat.le_of_ble_eq_true rfl, Nat.le_of_ble_eq_true rfl⟩ hS ⟨h_x0, h_x1⟩ hl.1 rfl (Nat.le_of_ble_eq_true rfl) dX1_isSameBy_8 ⟨Nat.le_of_ble_eq_true rfl, Nat.le_of_ble_eq_true rfl⟩) ?_
    refine lv_goto (tgt := 32) hx hb dX1_isSameBy_11 (by decide) ?_
    obtain rfl := Option.some.inj h
    rw [eQ]
    exact p_zret hx hb hr hlk (narB _) dX1_isSameBy_32 rfl

abbrev R_X1_known : Room := { frames := 0, cells := 0, slots := 0, locals := 0 }
noncomputable def f_X1_known (x0 : Int32) : Option (UInt64) :=
  (if x0 = 0 then
    some 0
  else
  (if x0 = 1 then
    some 9223372036854775808
  else
  (if x0 = 2 then
    some 4593671619917905920
  else
  (if x0 = 3 then
    some 4661225614328463360
  else
  (if x0 = 4 then
    some 4832362400168542208
  else
  (if x0 = 5 then
    some 4665869951444189184
  else
  (if x0 = 6 then
    some 4640449242610008064
  else
  some 4644952842237378560
  )))))))
theorem hd_X1_known : Hd yX1_known 1 := by unfold Hd; decide +kernel
set_option maxHeartbeats 4000000 in
set_option maxRecDepth 100000 in
theorem m_X1_known {l : Launch} {D : DD}   (x0 : Int32) (r : UInt64) (h : f_X1_known x0 = some r) : MP l D yX1_known cX1_known 1 (some .double) 0 0 [.int x0] NoPre (some (.double r)) := by
  refine MP.start (by decide +kernel) (Nat.le_of_ble_eq_true rfl) ?_
  intro p e s m below meth c ls hC hS hp hl
  obtain ⟨hx, hb, hr, hlk, hml, hown, hts, hnm⟩ := id hC
  have hl : lv_has ls 1 [(0, .int x0)] := hl
  unfold f_X1_known at h
  have hS0 := hS
  obtain ⟨A, eA⟩ : ∃ A : Array Value, A = [.int x0].toArray := ⟨_, rfl⟩
  rw [← eA] at hC hts ⊢
  obtain ⟨Q, eQ⟩ : ∃ Q : State → Prop, Q = MQ below (PQ (some (.double r))) A s 0 0 (fun _ => False) := ⟨_, rfl⟩
  show W p l e R_X1_known s m A below meth c s.heap [] 0 0 _ _
  rw [← eQ]
  refine lv_iload_n hx hb dX1_known_0 rfl (lv_at hl 0 rfl) ?_
  by_cases c1 : x0 = 0
  · have h := it_pos h c1
    refine r_tabIn (z := 0) (off := 43) (tgt := 44) hx hb c1 dX1_known_1 (by decide) (by decide) (by decide) (by decide) ?_
    refine lv_dconst0 hx hb dX1_known_44 ?_
    obtain rfl := Option.some.inj h
    rw [eQ]
    exact p_dret hx hb hr hlk dX1_known_45 rfl
  have h := it_neg h c1
  by_cases c2 : x0 = 1
  · have h := it_pos h c2
    refine r_tabIn (z := 1) (off := 45) (tgt := 46) hx hb c2 dX1_known_1 (by decide) (by decide) (by decide) (by decide) ?_
    refine lv_ldc2d hx hb (v := 9223372036854775808) hown (hts _ q1478) dX1_known_46 ?_
    obtain rfl := Option.some.inj h
    rw [eQ]
    exact p_dret hx hb hr hlk dX1_known_49 rfl
  have h := it_neg h c2
  by_cases c3 : x0 = 2
  · have h := it_pos h c3
    refine r_tabIn (z := 2) (off := 49) (tgt := 50) hx hb c3 dX1_known_1 (by decide) (by decide) (by decide) (by decide) ?_
    refine lv_ldc2d hx hb (v := 4593671619917905920) hown (hts _ q910) dX1_known_50 ?_
    obtain rfl := Option.some.inj h
    rw [eQ]
    exact p_dret hx hb hr hlk dX1_known_53 rfl
  have h := it_neg h c3
  by_cases c4 : x0 = 3
  · have h := it_pos h c4
    refine r_tabIn (z := 3) (off := 53) (tgt := 54) hx hb c4 dX1_known_1 (by decide) (by decide) (by decide) (by decide) ?_
    refine lv_ldc2d hx hb (v := 4661225614328463360) hown (hts _ q1479) dX1_known_54 ?_
    obtain rfl := Option.some.inj h
    rw [eQ]
    exact p_dret hx hb hr hlk dX1_known_57 rfl
  have h := it_neg h c4
  by_cases c5 : x0 = 4
  · have h := it_pos h c5
    refine r_tabIn (z := 4) (off := 57) (tgt := 58) hx hb c5 dX1_known_1 (by decide) (by decide) (by decide) (by decide) ?_
    refine lv_ldc2d hx hb (v := 4832362400168542208) hown (hts _ q1480) dX1_known_58 ?_
    obtain rfl := Option.some.inj h
    rw [eQ]
    exact p_dret hx hb hr hlk dX1_known_61 rfl
  have h := it_neg h c5
  by_cases c6 : x0 = 5
  · have h := it_pos h c6
    refine r_tabIn (z := 5) (off := 61) (tgt := 62) hx hb c6 dX1_known_1 (by decide) (by decide) (by decide) (by decide) ?_
    refine lv_ldc2d hx hb (v := 4665869951444189184) hown (hts _ q1481) dX1_known_62 ?_
    obtain rfl := Option.some.inj h
    rw [eQ]
    exact p_dret hx hb hr hlk dX1_known_65 rfl
  have h := it_neg h c6
  by_cases c7 : x0 = 6
  · have h := it_pos h c7
    refine r_tabIn (z := 6) (off := 65) (tgt := 66) hx hb c7 dX1_known_1 (by decide) (by decide) (by decide) (by decide) ?_
    refine lv_ldc2d hx hb (v := 4640449242610008064) hown (hts _ q1482) dX1_known_66 ?_
    obtain rfl := Option.some.inj h
    rw [eQ]
    exact p_dret hx hb hr hlk dX1_known_69 rfl
  have h := it_neg h c7
  refine lv_tableOut (tgt := 70) hx hb dX1_known_1 (tab_out7 c1 c2 c3 c4 c5 c6 c7) (by decide) ?_
  refine lv_ldc2d hx hb (v := 4644952842237378560) hown (hts _ q1483) dX1_known_70 ?_
  obtain rfl := Option.some.inj h
  rw [eQ]
  exact p_dret hx hb hr hlk dX1_known_73 rfl

abbrev R_X1_first : Room := { frames := 4, cells := 0, slots := 0, locals := 86 }
noncomputable def f_X1_first (x0r0c : Nat → UInt64) (x0r1c : Nat → UInt64) (x0r2c : Nat → Int32) (x0f3 : Int32) (x0f4 : Int32) (x0f5 : Int32) (x0f6 : Int32) (x1 : Int32) (x2 : Int32) : Option (Int32) :=
  Option.bind (f_X1_heightAt x0r0c x0r1c x0r2c x0f3 x0f4 x0f5 x0f6 x1) fun o1 =>
  Option.bind (f_X1_isIn x2 0 30) fun o2 =>
  Option.bind (f_X1_mustFit o2) fun o3 =>
  Option.bind (f_X1_fractionOf o1) fun o4 =>
  lti (52 - x2) fun v5 =>
  ltl (((o4 : Int64).toUInt64 >>> ((v5 : Int32).toInt64.toUInt64 &&& Int64.toUInt64 63)).toInt64) fun v6 =>
  lti (v6.toInt32) fun v7 =>
  some v7
theorem hd_X1_first : Hd yX1_first 2 := by unfold Hd; decide +kernel
set_option maxHeartbeats 4000000 in
set_option maxRecDepth 100000 in
theorem m_X1_first {l : Launch} {D : DD} (x0 : Nat) (x0r0 : Nat) (x0r1 : Nat) (x0r2 : Nat)  (x0r0c : Nat → UInt64) (x0r1c : Nat → UInt64) (x0r2c : Nat → Int32) (x0f3 : Int32) (x0f4 : Int32) (x0f5 : Int32) (x0f6 : Int32) (x1 : Int32) (x2 : Int32) (r : Int32) (h : f_X1_first x0r0c x0r1c x0r2c x0f3 x0f4 x0f5 x0f6 x1 x2 = some r) : MP l D yX1_first cX1_first 5 (some .int) 4 86 [.ref x0, .int x1, .int x2] (fun H => ON D 0 x0 [.ref x0r0, .ref x0r1, .ref x0r2, .int x0f3, .int x0f4, .int x0f5, .int x0f6] H ∧ aD D x0r0 8 x0r0c H ∧ aD D x0r1 8 x0r1c H ∧ aZ D x0r2 8 x0r2c H) (some (.int r)) := by
  refine MP.start (by decide +kernel) (Nat.le_of_ble_eq_true rfl) ?_
  intro p e s m below meth c ls hC hS hp hl
  obtain ⟨h_x0, h_x0r0, h_x0r1, h_x0r2⟩ := hp
  obtain ⟨hx, hb, hr, hlk, hml, hown, hts, hnm⟩ := id hC
  have hl : lv_has ls 5 [(0, .ref x0), (1, .int x1), (2, .int x2)] := hl
  unfold f_X1_first at h
  have hS0 := hS
  obtain ⟨A, eA⟩ : ∃ A : Array Value, A = [.ref x0, .int x1, .int x2].toArray := ⟨_, rfl⟩
  rw [← eA] at hC hts ⊢
  obtain ⟨Q, eQ⟩ : ∃ Q : State → Prop, Q = MQ below (PQ (some (.int r))) A s 0 0 (fun _ => False) := ⟨_, rfl⟩
  show W p l e R_X1_first s m A below meth c s.heap [] 0 0 _ _
  rw [← eQ]
  refine lv_aload_n hx hb dX1_first_0 rfl (lv_at hl 0 rfl) ?_
  refine lv_iload_n hx hb dX1_first_1 rfl (lv_at hl 1 rfl) ?_
  obtain ⟨o1, eo1, h⟩ := bind_step h
  refine r_cp (r_runV (rest := []) (As := [.int x1]) hC 1 (m_X1_heightAt x0 x0r0 x0r1 x0r2  x0r0c x0r1c x0r2c x0f3 x0f4 x0f5 x0f6 x1 o1 eo1) q1202 q1204 qs13 q46 q1205 (OA.recv hS h_x0.OA (C := RX1) rfl) hd_X1_heightAt rfl ⟨Nat.le_of_ble_eq_true rfl, Nat.le_of_ble_eq_true rfl⟩ hS ⟨h_x0, h_x0r0, h_x0r1, h_x0r2⟩ hl.1 rfl (Nat.le_of_ble_eq_true rfl) dX1_first_2 ⟨Nat.le_of_ble_eq_true rfl, Nat.le_of_ble_eq_true rfl⟩) ?_
  refine lv_dstore_n (lv' := [(3, .double o1), (0, .ref x0), (1, .int x1), (2, .int x2)]) hx hb dX1_first_5 rfl hl (by decide) rfl (fun ls hl => ?_)
  refine lv_iload_n hx hb dX1_first_6 rfl (lv_at hl 3 rfl) ?_
  refine lv_iconst (v := 0) hx hb dX1_first_7 (by decide) ?_
  refine lv_bipush (v := 30) hx hb dX1_first_8 (by decide) ?_
  obtain ⟨o2, eo2, h⟩ := bind_step h
  refine r_cp (r_runS (rest := []) (As := [.int x2, .int 0, .int 30]) hC 3 (m_X1_isIn   x2 0 30 o2 eo2) q395 q396 q46 q397 hd_X1_isIn rfl ⟨Nat.le_of_ble_eq_true rfl, Nat.le_of_ble_eq_true rfl⟩ hS trivial hl.1 rfl (Nat.le_of_ble_eq_true rfl) dX1_first_10 ⟨Nat.le_of_ble_eq_true rfl, Nat.le_of_ble_eq_true rfl⟩) ?_
  obtain ⟨o3, eo3, h⟩ := bind_step h
  refine r_cpv (r_runS (rest := []) (As := [.int (bI o2)]) hC 1 (m_X1_mustFit   o2 o3 eo3) q1230 q1231 q46 q1232 hd_X1_mustFit rfl ⟨Nat.le_of_ble_eq_true rfl, Nat.le_of_ble_eq_true rfl⟩ hS trivial hl.1 rfl (Nat.le_of_ble_eq_true rfl) dX1_first_13 ⟨Nat.le_of_ble_eq_true rfl, Nat.le_of_ble_eq_true rfl⟩) ?_
  refine lv_dload_n hx hb dX1_first_16 rfl (lv_at hl 0 rfl) ?_
  obtain ⟨o4, eo4, h⟩ := bind_step h
  refine r_cp (r_runS (rest := []) (As := [.double o1]) hC 1 (m_X1_fractionOf   o1 o4 eo4) q381 q382 q46 q383 hd_X1_fractionOf rfl ⟨Nat.le_of_ble_eq_true rfl, Nat.le_of_ble_eq_true rfl⟩ hS trivial hl.1 rfl (Nat.le_of_ble_eq_true rfl) dX1_first_17 ⟨Nat.le_of_ble_eq_true rfl, Nat.le_of_ble_eq_true rfl⟩) ?_
  refine lv_bipush (v := 52) hx hb dX1_first_20 (by decide) ?_
  refine lv_iload_n hx hb dX1_first_22 rfl (lv_at hl 3 rfl) ?_
  obtain ⟨v5, ev5, h⟩ := lti_step h
  refine r_isub hx hb ev5 dX1_first_23 ?_
  obtain ⟨v6, ev6, h⟩ := ltl_step h
  refine r_lushr hx hb ev6 dX1_first_24 ?_
  obtain ⟨v7, ev7, h⟩ := lti_step h
  refine r_l2i hx hb ev7 dX1_first_25 ?_
  obtain rfl := Option.some.inj h
  rw [eQ]
  exact p_iret hx hb hr hlk dX1_first_26 rfl

abbrev R_X1_heightSame : Room := { frames := 5, cells := 2, slots := 2, locals := 109 }
noncomputable def f_X1_heightSame (x0r0c : Nat → UInt64) (x0r1c : Nat → UInt64) (x0r2c : Nat → Int32) (x0f3 : Int32) (x0f4 : Int32) (x0f5 : Int32) (x0f6 : Int32) (x1 : Int32) (x2 : Int32) (x3 : Int32) : Option (Bool) :=
  Option.bind (f_X1_heightAt x0r0c x0r1c x0r2c x0f3 x0f4 x0f5 x0f6 x1) fun o1 =>
  Option.bind (f_X1_heightAt x0r0c x0r1c x0r2c x0f3 x0f4 x0f5 x0f6 x2) fun o2 =>
  Option.bind (f_X1_isIn x3 0 2) fun o3 =>
  Option.bind (f_X1_mustFit o3) fun o4 =>
  Option.bind (f_J10_valueOf o1) fun o5 =>
  Option.bind (f_J10_valueOf o2) fun o7 =>
  Option.bind (f_X1_isSameBy o5 o7 x3) fun o9 =>
  some o9
theorem hd_X1_heightSame : Hd yX1_heightSame 3 := by unfold Hd; decide +kernel
set_option maxHeartbeats 4000000 in
set_option maxRecDepth 100000 in
theorem m_X1_heightSame {l : Launch} {D : DD} (x0 : Nat) (x0r0 : Nat) (x0r1 : Nat) (x0r2 : Nat)  (x0r0c : Nat → UInt64) (x0r1c : Nat → UInt64) (x0r2c : Nat → Int32) (x0f3 : Int32) (x0f4 : Int32) (x0f5 : Int32) (x0f6 : Int32) (x1 : Int32) (x2 : Int32) (x3 : Int32) (r : Bool) (h : f_X1_heightSame x0r0c x0r1c x0r2c x0f3 x0f4 x0f5 x0f6 x1 x2 x3 = some r) : MT l D yX1_heightSame cX1_heightSame 8 (some .boolean) 5 109 2 2 [.ref x0, .int x1, .int x2, .int x3] (fun H => ON D 0 x0 [.ref x0r0, .ref x0r1, .ref x0r2, .int x0f3, .int x0f4, .int x0f5, .int x0f6] H ∧ aD D x0r0 8 x0r0c H ∧ aD D x0r1 8 x0r1c H ∧ aZ D x0r2 8 x0r2c H) (pZ (fun H b H' => b = r ∧ Off (fun _ => False) H H')) := by
  refine MT.start (by decide +kernel) (Nat.le_of_ble_eq_true rfl) ?_
  intro p e s m below meth c ls hC hS hp hl
  obtain ⟨h_x0, h_x0r0, h_x0r1, h_x0r2⟩ := hp
  obtain ⟨hx, hb, hr, hlk, hml, hown, hts, hnm⟩ := id hC
  have hl : lv_has ls 8 [(0, .ref x0), (1, .int x1), (2, .int x2), (3, .int x3)] := hl
  unfold f_X1_heightSame at h
  have hS0 := hS
  obtain ⟨A, eA⟩ : ∃ A : Array Value, A = [.ref x0, .int x1, .int x2, .int x3].toArray := ⟨_, rfl⟩
  rw [← eA] at hC hts ⊢
  obtain ⟨Q, eQ⟩ : ∃ Q : State → Prop, Q = MQ below (TQ D (pZ (fun H b H' => b = r ∧ Off (fun _ => False) H H'))) A s 2 2 (fun q => dB D ≤ q) := ⟨_, rfl⟩
  have hF : Off (fun _ => False) s.heap s.heap := Off.rf
  show W p l e R_X1_heightSame s m A below meth c s.heap [] 0 0 _ _
  rw [← eQ]
  obtain ⟨H, eH⟩ : ∃ H : Heap, H = s.heap := ⟨_, rfl⟩
  obtain ⟨locs, eLc⟩ : ∃ L : List Loc, L = [] := ⟨_, rfl⟩
  have lt_h_x0 := h_x0.lt
  have lt_h_x0r0 := h_x0r0.lt
  have lt_h_x0r1 := h_x0r1.lt
  have lt_h_x0r2 := h_x0r2.lt
  rw [← eH, ← eLc]
  have hF : Off (fun _ => False) s.heap H := by rw [eH]; exact hF
  rw [← eH] at h_x0
  rw [← eH] at h_x0r0
  rw [← eH] at h_x0r1
  rw [← eH] at h_x0r2
  have hS : St D s H locs := by rw [eH, eLc]; exact hS
  refine lv_aload_n hx hb dX1_heightSame_0 rfl (lv_at hl 0 rfl) ?_
  refine lv_iload_n hx hb dX1_heightSame_1 rfl (lv_at hl 1 rfl) ?_
  obtain ⟨o1, eo1, h⟩ := bind_step h
  refine r_cp (r_runV (rest := []) (As := [.int x1]) hC 1 (m_X1_heightAt x0 x0r0 x0r1 x0r2  x0r0c x0r1c x0r2c x0f3 x0f4 x0f5 x0f6 x1 o1 eo1) q1202 q1204 qs13 q46 q1205 (OA.recv hS h_x0.OA (C := RX1) rfl) hd_X1_heightAt rfl ⟨Nat.le_of_ble_eq_true rfl, Nat.le_of_ble_eq_true rfl⟩ hS ⟨h_x0, h_x0r0, h_x0r1, h_x0r2⟩ hl.1 rfl (Nat.le_of_ble_eq_true rfl) dX1_heightSame_2 ⟨Nat.le_of_ble_eq_true rfl, Nat.le_of_ble_eq_true rfl⟩) ?_
  refine lv_dstore (lv' := [(4, .double o1), (0, .ref x0), (1, .int x1), (2, .int x2), (3, .int x3)]) hx hb dX1_heightSame_5 hl (by decide) rfl (fun ls hl => ?_)
  refine lv_aload_n hx hb dX1_heightSame_7 rfl (lv_at hl 1 rfl) ?_
  refine lv_iload_n hx hb dX1_heightSame_8 rfl (lv_at hl 3 rfl) ?_
  obtain ⟨o2, eo2, h⟩ := bind_step h
  refine r_cp (r_runV (rest := []) (As := [.int x2]) hC 1 (m_X1_heightAt x0 x0r0 x0r1 x0r2  x0r0c x0r1c x0r2c x0f3 x0f4 x0f5 x0f6 x2 o2 eo2) q1202 q1204 qs13 q46 q1205 (OA.recv hS h_x0.OA (C := RX1) rfl) hd_X1_heightAt rfl ⟨Nat.le_of_ble_eq_true rfl, Nat.le_of_ble_eq_true rfl⟩ hS ⟨h_x0, h_x0r0, h_x0r1, h_x0r2⟩ hl.1 rfl (Nat.le_of_ble_eq_true rfl) dX1_heightSame_9 ⟨Nat.le_of_ble_eq_true rfl, Nat.le_of_ble_eq_true rfl⟩) ?_
  refine lv_dstore (lv' := [(6, .double o2), (4, .double o1), (0, .ref x0), (1, .int x1), (2, .int x2), (3, .int x3)]) hx hb dX1_heightSame_12 hl (by decide) rfl (fun ls hl => ?_)
  refine lv_iload_n hx hb dX1_heightSame_14 rfl (lv_at hl 5 rfl) ?_
  refine lv_iconst (v := 0) hx hb dX1_heightSame_15 (by decide) ?_
  refine lv_iconst (v := 2) hx hb dX1_heightSame_16 (by decide) ?_
  obtain ⟨o3, eo3, h⟩ := bind_step h
  refine r_cp (r_runS (rest := []) (As := [.int x3, .int 0, .int 2]) hC 3 (m_X1_isIn   x3 0 2 o3 eo3) q395 q396 q46 q397 hd_X1_isIn rfl ⟨Nat.le_of_ble_eq_true rfl, Nat.le_of_ble_eq_true rfl⟩ hS trivial hl.1 rfl (Nat.le_of_ble_eq_true rfl) dX1_heightSame_17 ⟨Nat.le_of_ble_eq_true rfl, Nat.le_of_ble_eq_true rfl⟩) ?_
  obtain ⟨o4, eo4, h⟩ := bind_step h
  refine r_cpv (r_runS (rest := []) (As := [.int (bI o3)]) hC 1 (m_X1_mustFit   o3 o4 eo4) q1230 q1231 q46 q1232 hd_X1_mustFit rfl ⟨Nat.le_of_ble_eq_true rfl, Nat.le_of_ble_eq_true rfl⟩ hS trivial hl.1 rfl (Nat.le_of_ble_eq_true rfl) dX1_heightSame_20 ⟨Nat.le_of_ble_eq_true rfl, Nat.le_of_ble_eq_true rfl⟩) ?_
  refine lv_dload hx hb dX1_heightSame_23 (lv_at hl 1 rfl) ?_
  obtain ⟨o5, eo5, h⟩ := bind_step h
  refine r_cr (r_runS (rest := []) (As := [.double o1]) hC 1 (m_J10_valueOf   o1 o5 eo5) q1301 q1302 q51 q1303 hd_J10_valueOf rfl ⟨Nat.le_of_ble_eq_true rfl, Nat.le_of_ble_eq_true rfl⟩ hS trivial hl.1 rfl (Nat.le_of_ble_eq_true rfl) dX1_heightSame_25 ⟨Nat.le_of_ble_eq_true rfl, Nat.le_of_ble_eq_true rfl⟩) hS (fun ad6 H locs hp hS hz => ?_)
  obtain ⟨had6, frad6, hO⟩ := hp
  have ne_h_x0_had6 : x0 ≠ ad6 := Nat.ne_of_lt (Nat.lt_of_lt_of_le h_x0.lt frad6)
  have ne_h_x0r0_had6 : x0r0 ≠ ad6 := Nat.ne_of_lt (Nat.lt_of_lt_of_le h_x0r0.lt frad6)
  have ne_h_x0r1_had6 : x0r1 ≠ ad6 := Nat.ne_of_lt (Nat.lt_of_lt_of_le h_x0r1.lt frad6)
  have ne_h_x0r2_had6 : x0r2 ≠ ad6 := Nat.ne_of_lt (Nat.lt_of_lt_of_le h_x0r2.lt frad6)
  have gad6 : s.heap.size ≤ ad6 := Nat.le_trans hF.1 frad6
  have hB_had6 : dB D ≤ ad6 := by have := hS0.1.2.2.1; omega
  have h_x0 := h_x0.ext hO
  have h_x0r0 := h_x0r0.ext hO
  have h_x0r1 := h_x0r1.ext hO
  have h_x0r2 := h_x0r2.ext hO
  have hF := hF.trans (hO.mono (fun _ _ z => z.elim))
  refine lv_dload hx hb dX1_heightSame_28 (lv_at hl 0 rfl) ?_
  obtain ⟨o7, eo7, h⟩ := bind_step h
  refine r_cr (r_runS (rest := [.ref ad6]) (As := [.double o2]) hC 1 (m_J10_valueOf   o2 o7 eo7) q1301 q1302 q51 q1303 hd_J10_valueOf rfl ⟨Nat.le_of_ble_eq_true rfl, Nat.le_of_ble_eq_true rfl⟩ hS trivial hl.1 rfl (Nat.le_of_ble_eq_true rfl) dX1_heightSame_30 ⟨Nat.le_of_ble_eq_true rfl, Nat.le_of_ble_eq_true rfl⟩) hS (fun ad8 H locs hp hS hz => ?_)
  obtain ⟨had8, frad8, hO⟩ := hp
  have ne_h_x0_had8 : x0 ≠ ad8 := Nat.ne_of_lt (Nat.lt_of_lt_of_le h_x0.lt frad8)
  have ne_h_x0r0_had8 : x0r0 ≠ ad8 := Nat.ne_of_lt (Nat.lt_of_lt_of_le h_x0r0.lt frad8)
  have ne_h_x0r1_had8 : x0r1 ≠ ad8 := Nat.ne_of_lt (Nat.lt_of_lt_of_le h_x0r1.lt frad8)
  have ne_h_x0r2_had8 : x0r2 ≠ ad8 := Nat.ne_of_lt (Nat.lt_of_lt_of_le h_x0r2.lt frad8)
  have ne_had6_had8 : ad6 ≠ ad8 := Nat.ne_of_lt (Nat.lt_of_lt_of_le had6.lt frad8)
  have gad8 : s.heap.size ≤ ad8 := Nat.le_trans hF.1 frad8
  have hB_had8 : dB D ≤ ad8 := by have := hS0.1.2.2.1; omega
  have h_x0 := h_x0.ext hO
  have h_x0r0 := h_x0r0.ext hO
  have h_x0r1 := h_x0r1.ext hO
  have h_x0r2 := h_x0r2.ext hO
  have had6 := had6.ext hO
  have hF := hF.trans (hO.mono (fun _ _ z => z.elim))
  refine lv_iload_n hx hb dX1_heightSame_33 rfl (lv_at hl 5 rfl) ?_
  obtain ⟨o9, eo9, h⟩ := bind_step h
  refine r_cp (r_runS (rest := []) (As := [.ref ad6, .ref ad8, .int x3]) hC 3 (m_X1_isSameBy ad6 ad8  o5 o7 x3 o9 eo9) q1423 q1424 q46 q1425 hd_X1_isSameBy rfl ⟨Nat.le_of_ble_eq_true rfl, Nat.le_of_ble_eq_true rfl⟩ hS ⟨had6, had8, ne_had6_had8⟩ hl.1 rfl (Nat.le_of_ble_eq_true rfl) dX1_heightSame_34 ⟨Nat.le_of_ble_eq_true rfl, Nat.le_of_ble_eq_true rfl⟩) ?_
  obtain rfl := Option.some.inj h
  rw [eQ]
  exact r_zret hx hb hr hlk hS (narB _) (Nat.le_of_ble_eq_true rfl) (Nat.le_of_ble_eq_true rfl) dX1_heightSame_37 ⟨_, rfl, rfl, hF⟩

abbrev R_X1_sort : Room := { frames := 4, cells := 0, slots := 0, locals := 117 }
noncomputable def f_X1_sort (x0c : Nat → UInt64) (x1c : Nat → UInt64) : Option (Int32 × (Nat → UInt64) × (Nat → UInt64)) :=
  lt (fun (f1 : Nat → UInt64) (v2 : Int32) =>
  (show Option (Sum ((Nat → UInt64) × Int32) ((Nat → UInt64))) from (
  (if 8 ≤ v2 then
    some (.inr f1)
  else
    gd 8 v2 fun i14 =>
    ltd (x0c i14) fun v15 =>
    gd 8 v2 fun i16 =>
    lt (va_up f1 i16 v15) fun f17 =>
    lti (v2 + 1) fun v18 =>
    some (.inl (f17, v18))
  )
  ))
  ) fun F10 =>
  Option.bind (lp 9 (fun x => F10 x.1 x.2) (x1c, 0)) fun w11 =>
  Option.bind (f_J19_sort x0c) fun o19 =>
  lt (fun (v20 : Int32) (v21 : Int32) =>
  (show Option (Sum (Int32 × Int32) (Int32)) from (
  (if 8 ≤ v21 then
    some (.inr v20)
  else
    gd 8 v21 fun i40 =>
    ltd (w11 i40) fun v41 =>
    gd 8 v21 fun i42 =>
    ltd (o19 i42) fun v43 =>
    Option.bind (f_X1_isSame v41 v43) fun o44 =>
    lt (fun (v45 : Bool) =>
    Option.bind (f_X1_bit v45) fun o47 =>
    lti (v20 + o47) fun v48 =>
    lti (v21 + 1) fun v49 =>
    some (.inl (v48, v49))
    ) fun K46 =>
    (if o44 = true then
      K46 false
    else
      K46 true
    )
  )
  ))
  ) fun F36 =>
  Option.bind (lp 9 (fun x => F36 x.1 x.2) (0, 0)) fun w37 =>
  some (w37, o19, w11)
theorem hd_X1_sort : Hd yX1_sort 2 := by unfold Hd; decide +kernel
set_option maxHeartbeats 4000000 in
set_option maxRecDepth 100000 in
theorem m_X1_sort {l : Launch} {D : DD} (x0 : Nat) (x1 : Nat)  (x0c : Nat → UInt64) (x1c : Nat → UInt64) (r : Int32 × (Nat → UInt64) × (Nat → UInt64)) (h : f_X1_sort x0c x1c = some r) : MT l D yX1_sort cX1_sort 4 (some .int) 4 117 0 0 [.ref x0, .ref x1] (fun H => aD D x0 8 x0c H ∧ dB D ≤ x0 ∧ aD D x1 8 x1c H ∧ dB D ≤ x1 ∧ x0 ≠ x1) (pI (fun H b H' => b = r.1 ∧ aD D x0 8 r.2.1 H' ∧ aD D x1 8 r.2.2 H' ∧ Off (fun a => a = x0 ∨ a = x1) H H')) := by
  refine MT.start (by decide +kernel) (Nat.le_of_ble_eq_true rfl) ?_
  intro p e s m below meth c ls hC hS hp hl
  obtain ⟨h_x0, hB_h_x0, h_x1, hB_h_x1, ne_x0_x1⟩ := hp
  obtain ⟨hx, hb, hr, hlk, hml, hown, hts, hnm⟩ := id hC
  have hl : lv_has ls 4 [(0, .ref x0), (1, .ref x1)] := hl
  unfold f_X1_sort at h
  have hS0 := hS
  obtain ⟨A, eA⟩ : ∃ A : Array Value, A = [.ref x0, .ref x1].toArray := ⟨_, rfl⟩
  rw [← eA] at hC hts ⊢
  obtain ⟨Q, eQ⟩ : ∃ Q : State → Prop, Q = MQ below (TQ D (pI (fun H b H' => b = r.1 ∧ aD D x0 8 r.2.1 H' ∧ aD D x1 8 r.2.2 H' ∧ Off (fun a => a = x0 ∨ a = x1) H H'))) A s 0 0 (fun q => dB D ≤ q) := ⟨_, rfl⟩
  have hF : Off (fun a => a = x0 ∨ a = x1) s.heap s.heap := Off.rf
  show W p l e R_X1_sort s m A below meth c s.heap [] 0 0 _ _
  rw [← eQ]
  obtain ⟨H, eH⟩ : ∃ H : Heap, H = s.heap := ⟨_, rfl⟩
  obtain ⟨locs, eLc⟩ : ∃ L : List Loc, L = [] := ⟨_, rfl⟩
  have lt_h_x0 := h_x0.lt
  have lt_h_x1 := h_x1.lt
  rw [← eH, ← eLc]
  have hF : Off (fun a => a = x0 ∨ a = x1) s.heap H := by rw [eH]; exact hF
  rw [← eH] at h_x0
  rw [← eH] at h_x1
  have hS : St D s H locs := by rw [eH, eLc]; exact hS
  refine lv_iconst (v := 0) hx hb dX1_sort_0 (by decide) ?_
  refine lv_istore_n (lv' := [(2, .int 0), (0, .ref x0), (1, .ref x1)]) hx hb dX1_sort_1 rfl hl (by decide) rfl (fun ls hl => ?_)
  obtain ⟨F10, eF10, h⟩ := lt_step h
  obtain ⟨w11, ew11, h⟩ := bind_step h
  have HL : ∀ (n : Nat) (f1 : Nat → UInt64) (v2 : Int32) (w11 : (Nat → UInt64)) (hk0 : lp n (fun x => F10 x.1 x.2) (f1, v2) = some w11)  (H : Heap) (locs : List Loc) (hS : St D s H locs) (hF : Off (fun a => a = x0 ∨ a = x1) s.heap H) (h_x0 : aD D x0 8 x0c H) (h_x1 : aD D x1 8 f1 H) (ls : Array Slot) (hl : lv_has ls 4 [(0, .ref x0), (1, .ref x1), (2, .int v2)]) (K20 : ∀ (H : Heap) (locs : List Loc) (hS : St D s H locs) (hF : Off (fun a => a = x0 ∨ a = x1) s.heap H) (h_x0 : aD D x0 8 x0c H) (h_x1 : aD D x1 8 w11 H) (ls : Array Slot) (hl : lv_has ls 4 [(0, .ref x0), (1, .ref x1)]), W p l e R_X1_sort s m A below meth c H locs 0 0 Q (F0 m 20 ls [])), W p l e R_X1_sort s m A below meth c H locs 0 0 Q (F0 m 2 ls []) := by
    intro n
    induction n with
    | zero => intro f1 v2 w11 hk0  H locs hS hF h_x0 h_x1 ls hl K20; exact lp_zero hk0
    | succ n ih =>
      intro f1 v2 w11 hk0  H locs hS hF h_x0 h_x1 ls hl K20
      obtain ⟨z12, hz, hk⟩ := lp_step hk0
      have h := (congrFun (congrFun (eF10) f1) v2).symm.trans hz
      refine lv_iload_n hx hb dX1_sort_2 rfl (lv_at hl 2 rfl) ?_
      refine lv_bipush (v := 8) hx hb dX1_sort_3 (by decide) ?_
      refine lv_icmp_ge (tgt := 20) hx hb dX1_sort_5 (by decide) (fun c13 => ?_) (fun c13 => ?_)
      · have h := it_pos h c13
        obtain rfl := Option.some.inj h
        obtain rfl := id hk
        exact K20 H locs hS hF h_x0 h_x1 ls (lv_sub hl [0, 1] rfl)
      · have h := it_neg h c13
        refine lv_aload_n hx hb dX1_sort_8 rfl (lv_at hl 1 rfl) ?_
        refine lv_iload_n hx hb dX1_sort_9 rfl (lv_at hl 2 rfl) ?_
        refine lv_aload_n hx hb dX1_sort_10 rfl (lv_at hl 0 rfl) ?_
        refine lv_iload_n hx hb dX1_sort_11 rfl (lv_at hl 2 rfl) ?_
        obtain ⟨i14, xi14, h⟩ := gd_step (by decide) h
        refine r_dald hx hb hS h_x0 i14 xi14 dX1_sort_12 ?_
        obtain ⟨v15, ev15, h⟩ := ltd_step h
        refine r_nmD ev15 ?_
        obtain ⟨i16, xi16, h⟩ := gd_step (by decide) h
        obtain ⟨f17, ef17, h⟩ := lt_step h
        refine r_dast hx hb hS h_x1 hB_h_x1 i16 xi16 dX1_sort_13 (fun H locs hS hO h_x1 => ?_)
        have h_x1 : aD D x1 8 f17 H := by rw [ef17]; exact h_x1
        have h_x0 := h_x0.off hO ne_x0_x1
        have hF := hF.fresh hO (fun a ha z => Or.inr (z))
        obtain ⟨v18, ev18, h⟩ := lti_step h
        refine lv_iinc (v := v18) (lv' := [(2, .int v18), (0, .ref x0), (1, .ref x1)]) hx hb dX1_sort_14 hl (k := 2) rfl (by rw [ev18]; rfl) (by decide) rfl (fun ls hl => ?_)
        refine lv_goto (tgt := 2) hx hb dX1_sort_17 (by decide) ?_
        obtain rfl := Option.some.inj h
        exact ih f17 v18 w11 hk  H locs hS hF h_x0 h_x1 ls (lv_sub hl [1, 2, 0] rfl) K20
  clear eF10
  refine HL 9 x1c 0 w11 ew11  H locs hS hF h_x0 h_x1 ls (lv_sub hl [1, 2, 0] rfl) (fun  H locs hS hF h_x0 h_x1 ls hl => ?_)
  refine lv_aload_n hx hb dX1_sort_20 rfl (lv_at hl 0 rfl) ?_
  obtain ⟨o19, eo19, h⟩ := bind_step h
  refine r_cv (r_runS (rest := []) (As := [.ref x0]) hC 1 (m_J19_sort x0  x0c o19 eo19) q1673 q1674 q61 q1675 hd_J19_sort rfl ⟨Nat.le_of_ble_eq_true rfl, Nat.le_of_ble_eq_true rfl⟩ hS ⟨h_x0, hB_h_x0⟩ hl.1 rfl (Nat.le_of_ble_eq_true rfl) dX1_sort_21 ⟨Nat.le_of_ble_eq_true rfl, Nat.le_of_ble_eq_true rfl⟩) hS (fun H locs hp hS hz => ?_)
  obtain ⟨h_x0, hO⟩ := hp
  have h_x1 := h_x1.off hO (Ne.symm ne_x0_x1)
  have hF := hF.fresh hO (fun a ha z => Or.inl z)
  refine lv_iconst (v := 0) hx hb dX1_sort_24 (by decide) ?_
  refine lv_istore_n (lv' := [(2, .int 0), (0, .ref x0), (1, .ref x1)]) hx hb dX1_sort_25 rfl hl (by decide) rfl (fun ls hl => ?_)
  refine lv_iconst (v := 0) hx hb dX1_sort_26 (by decide) ?_
  refine lv_istore_n (lv' := [(3, .int 0), (2, .int 0), (0, .ref x0), (1, .ref x1)]) hx hb dX1_sort_27 rfl hl (by decide) rfl (fun ls hl => ?_)
  obtain ⟨F36, eF36, h⟩ := lt_step h
  obtain ⟨w37, ew37, h⟩ := bind_step h
  have HL : ∀ (n : Nat) (v20 : Int32) (v21 : Int32) (w37 : Int32) (hk0 : lp n (fun x => F36 x.1 x.2) (v20, v21) = some w37)  (H : Heap) (locs : List Loc) (hS : St D s H locs) (hF : Off (fun a => a = x0 ∨ a = x1) s.heap H) (h_x0 : aD D x0 8 o19 H) (h_x1 : aD D x1 8 w11 H) (ls : Array Slot) (hl : lv_has ls 4 [(0, .ref x0), (1, .ref x1), (2, .int v20), (3, .int v21)]) (K63 : ∀ (H : Heap) (locs : List Loc) (hS : St D s H locs) (hF : Off (fun a => a = x0 ∨ a = x1) s.heap H) (h_x0 : aD D x0 8 o19 H) (h_x1 : aD D x1 8 w11 H) (ls : Array Slot) (hl : lv_has ls 4 [(2, .int w37)]), W p l e R_X1_sort s m A below meth c H locs 0 0 Q (F0 m 63 ls [])), W p l e R_X1_sort s m A below meth c H locs 0 0 Q (F0 m 28 ls []) := by
    intro n
    induction n with
    | zero => intro v20 v21 w37 hk0  H locs hS hF h_x0 h_x1 ls hl K63; exact lp_zero hk0
    | succ n ih =>
      intro v20 v21 w37 hk0  H locs hS hF h_x0 h_x1 ls hl K63
      obtain ⟨z38, hz, hk⟩ := lp_step hk0
      have h := (congrFun (congrFun (eF36) v20) v21).symm.trans hz
      refine lv_iload_n hx hb dX1_sort_28 rfl (lv_at hl 3 rfl) ?_
      refine lv_bipush (v := 8) hx hb dX1_sort_29 (by decide) ?_
      refine lv_icmp_ge (tgt := 63) hx hb dX1_sort_31 (by decide) (fun c39 => ?_) (fun c39 => ?_)
      · have h := it_pos h c39
        obtain rfl := Option.some.inj h
        obtain rfl := id hk
        exact K63 H locs hS hF h_x0 h_x1 ls (lv_sub hl [2] rfl)
      · have h := it_neg h c39
        refine lv_iload_n hx hb dX1_sort_34 rfl (lv_at hl 2 rfl) ?_
        refine lv_aload_n hx hb dX1_sort_35 rfl (lv_at hl 1 rfl) ?_
        refine lv_iload_n hx hb dX1_sort_36 rfl (lv_at hl 3 rfl) ?_
        obtain ⟨i40, xi40, h⟩ := gd_step (by decide) h
        refine r_dald hx hb hS h_x1 i40 xi40 dX1_sort_37 ?_
        obtain ⟨v41, ev41, h⟩ := ltd_step h
        refine r_nmD ev41 ?_
        refine lv_aload_n hx hb dX1_sort_38 rfl (lv_at hl 0 rfl) ?_
        refine lv_iload_n hx hb dX1_sort_39 rfl (lv_at hl 3 rfl) ?_
        obtain ⟨i42, xi42, h⟩ := gd_step (by decide) h
        refine r_dald hx hb hS h_x0 i42 xi42 dX1_sort_40 ?_
        obtain ⟨v43, ev43, h⟩ := ltd_step h
        refine r_nmD ev43 ?_
        obtain ⟨o44, eo44, h⟩ := bind_step h
        refine r_cp (r_runS (rest := [.int v20]) (As := [.double v41, .double v43]) hC 2 (m_X1_isSame   v41 v43 o44 eo44) q1273 q1274 q46 q1275 hd_X1_isSame rfl ⟨Nat.le_of_ble_eq_true rfl, Nat.le_of_ble_eq_true rfl⟩ hS trivial hl.1 rfl (Nat.le_of_ble_eq_true rfl) dX1_sort_41 ⟨Nat.le_of_ble_eq_true rfl, Nat.le_of_ble_eq_true rfl⟩) ?_
        obtain ⟨K46, eK46, h⟩ := lt_step h
        have HK46 : ∀ (v45 : Bool) (h : K46 v45 = some z38) (H : Heap) (locs : List Loc) (hS : St D s H locs) (hF : Off (fun a => a = x0 ∨ a = x1) s.heap H) (h_x0 : aD D x0 8 o19 H) (h_x1 : aD D x1 8 w11 H) (ls : Array Slot) (hl : lv_has ls 4 [(0, .ref x0), (1, .ref x1), (3, .int v21)]), W p l e R_X1_sort s m A below meth c H locs 0 0 Q (F0 m 52 ls [.int (bI v45), .int v20]) := by
          intro v45 h H locs hS hF h_x0 h_x1 ls hl
          subst eK46
          obtain ⟨o47, eo47, h⟩ := bind_step h
          refine r_cp (r_runS (rest := [.int v20]) (As := [.int (bI v45)]) hC 1 (m_X1_bit   v45 o47 eo47) q389 q390 q46 q391 hd_X1_bit rfl ⟨Nat.le_of_ble_eq_true rfl, Nat.le_of_ble_eq_true rfl⟩ hS trivial hl.1 rfl (Nat.le_of_ble_eq_true rfl) dX1_sort_52 ⟨Nat.le_of_ble_eq_true rfl, Nat.le_of_ble_eq_true rfl⟩) ?_
          obtain ⟨v48, ev48, h⟩ := lti_step h
          refine r_iadd hx hb ev48 dX1_sort_55 ?_
          refine lv_istore_n (lv' := [(2, .int v48), (0, .ref x0), (1, .ref x1), (3, .int v21)]) hx hb dX1_sort_56 rfl hl (by decide) rfl (fun ls hl => ?_)
          obtain ⟨v49, ev49, h⟩ := lti_step h
          refine lv_iinc (v := v49) (lv' := [(3, .int v49), (2, .int v48), (0, .ref x0), (1, .ref x1)]) hx hb dX1_sort_57 hl (k := 3) rfl (by rw [ev49]; rfl) (by decide) rfl (fun ls hl => ?_)
          refine lv_goto (tgt := 28) hx hb dX1_sort_60 (by decide) ?_
          obtain rfl := Option.some.inj h
          exact ih v48 v49 w37 hk  H locs hS hF h_x0 h_x1 ls (lv_sub hl [2, 3, 1, 0] rfl) K63
        clear eK46
        refine r_ifz_ne (tgt := 51) hx hb dX1_sort_44 (by decide) (fun c50 => ?_) (fun c50 => ?_)
        · have h := it_pos h (by rw [c50])
          refine lv_iconst (v := 0) hx hb dX1_sort_51 (by decide) ?_
          exact HK46 false h H locs hS hF h_x0 h_x1 ls (lv_sub hl [0, 1, 3] rfl)
        · have h := it_neg h (by rw [c50]; decide)
          refine lv_iconst (v := 1) hx hb dX1_sort_47 (by decide) ?_
          refine lv_goto (tgt := 52) hx hb dX1_sort_48 (by decide) ?_
          exact HK46 true h H locs hS hF h_x0 h_x1 ls (lv_sub hl [0, 1, 3] rfl)
  clear eF36
  refine HL 9 0 0 w37 ew37  H locs hS hF h_x0 h_x1 ls (lv_sub hl [2, 3, 1, 0] rfl) (fun  H locs hS hF h_x0 h_x1 ls hl => ?_)
  refine lv_iload_n hx hb dX1_sort_63 rfl (lv_at hl 0 rfl) ?_
  obtain rfl := Option.some.inj h
  rw [eQ]
  exact r_iret hx hb hr hlk hS (Nat.le_of_ble_eq_true rfl) (Nat.le_of_ble_eq_true rfl) dX1_sort_64 ⟨_, rfl, rfl, h_x0, h_x1, hF⟩

abbrev R_X1_heightMax : Room := { frames := 5, cells := 0, slots := 0, locals := 113 }
noncomputable def f_X1_heightMax (x0r0c : Nat → UInt64) (x0r1c : Nat → UInt64) (x0r2c : Nat → Int32) (x0f3 : Int32) (x0f4 : Int32) (x0f5 : Int32) (x0f6 : Int32) (x1 : Int32) (x2 : Int32) (x3 : Int32) : Option (Int32 × Int32 × (Nat → UInt64)) :=
  Option.bind (f_X1_heightAt x0r0c x0r1c x0r2c x0f3 x0f4 x0f5 x0f6 x1) fun o1 =>
  Option.bind (f_X1_heightAt x0r0c x0r1c x0r2c x0f3 x0f4 x0f5 x0f6 x2) fun o2 =>
  Option.bind (f_J10_max o1 o2) fun o3 =>
  Option.bind (f_X1_heightPut x0r0c x0r1c x0r2c x0f3 x0f4 x0f5 x0f6 x3 o3) fun o4 =>
  some (o4.1, o4.2.1, o4.2.2)
theorem hd_X1_heightMax : Hd yX1_heightMax 3 := by unfold Hd; decide +kernel
set_option maxHeartbeats 4000000 in
set_option maxRecDepth 100000 in
theorem m_X1_heightMax {l : Launch} {D : DD} (x0 : Nat) (x0r0 : Nat) (x0r1 : Nat) (x0r2 : Nat)  (x0r0c : Nat → UInt64) (x0r1c : Nat → UInt64) (x0r2c : Nat → Int32) (x0f3 : Int32) (x0f4 : Int32) (x0f5 : Int32) (x0f6 : Int32) (x1 : Int32) (x2 : Int32) (x3 : Int32) (r : Int32 × Int32 × (Nat → UInt64)) (h : f_X1_heightMax x0r0c x0r1c x0r2c x0f3 x0f4 x0f5 x0f6 x1 x2 x3 = some r) : MT l D yX1_heightMax cX1_heightMax 4 (some .int) 5 113 0 0 [.ref x0, .int x1, .int x2, .int x3] (fun H => ON D 0 x0 [.ref x0r0, .ref x0r1, .ref x0r2, .int x0f3, .int x0f4, .int x0f5, .int x0f6] H ∧ dB D ≤ x0 ∧ aD D x0r0 8 x0r0c H ∧ aD D x0r1 8 x0r1c H ∧ dB D ≤ x0r1 ∧ aZ D x0r2 8 x0r2c H ∧ x0 ≠ x0r0 ∧ x0 ≠ x0r1 ∧ x0 ≠ x0r2 ∧ x0r0 ≠ x0r1 ∧ x0r1 ≠ x0r2) (pI (fun H b H' => b = r.1 ∧ ON D 0 x0 [.ref x0r0, .ref x0r1, .ref x0r2, .int x0f3, .int r.2.1, .int x0f5, .int x0f6] H' ∧ aD D x0r1 8 r.2.2 H' ∧ Off (fun a => a = x0 ∨ a = x0r1) H H')) := by
  refine MT.start (by decide +kernel) (Nat.le_of_ble_eq_true rfl) ?_
  intro p e s m below meth c ls hC hS hp hl
  obtain ⟨h_x0, hB_h_x0, h_x0r0, h_x0r1, hB_h_x0r1, h_x0r2, ne_x0_x0r0, ne_x0_x0r1, ne_x0_x0r2, ne_x0r0_x0r1, ne_x0r1_x0r2⟩ := hp
  obtain ⟨hx, hb, hr, hlk, hml, hown, hts, hnm⟩ := id hC
  have hl : lv_has ls 4 [(0, .ref x0), (1, .int x1), (2, .int x2), (3, .int x3)] := hl
  unfold f_X1_heightMax at h
  have hS0 := hS
  obtain ⟨A, eA⟩ : ∃ A : Array Value, A = [.ref x0, .int x1, .int x2, .int x3].toArray := ⟨_, rfl⟩
  rw [← eA] at hC hts ⊢
  obtain ⟨Q, eQ⟩ : ∃ Q : State → Prop, Q = MQ below (TQ D (pI (fun H b H' => b = r.1 ∧ ON D 0 x0 [.ref x0r0, .ref x0r1, .ref x0r2, .int x0f3, .int r.2.1, .int x0f5, .int x0f6] H' ∧ aD D x0r1 8 r.2.2 H' ∧ Off (fun a => a = x0 ∨ a = x0r1) H H'))) A s 0 0 (fun q => dB D ≤ q) := ⟨_, rfl⟩
  have hF : Off (fun a => a = x0 ∨ a = x0r1) s.heap s.heap := Off.rf
  show W p l e R_X1_heightMax s m A below meth c s.heap [] 0 0 _ _
  rw [← eQ]
  obtain ⟨H, eH⟩ : ∃ H : Heap, H = s.heap := ⟨_, rfl⟩
  obtain ⟨locs, eLc⟩ : ∃ L : List Loc, L = [] := ⟨_, rfl⟩
  have lt_h_x0 := h_x0.lt
  have lt_h_x0r0 := h_x0r0.lt
  have lt_h_x0r1 := h_x0r1.lt
  have lt_h_x0r2 := h_x0r2.lt
  rw [← eH, ← eLc]
  have hF : Off (fun a => a = x0 ∨ a = x0r1) s.heap H := by rw [eH]; exact hF
  rw [← eH] at h_x0
  rw [← eH] at h_x0r0
  rw [← eH] at h_x0r1
  rw [← eH] at h_x0r2
  have hS : St D s H locs := by rw [eH, eLc]; exact hS
  refine lv_aload_n hx hb dX1_heightMax_0 rfl (lv_at hl 0 rfl) ?_
  refine lv_iload_n hx hb dX1_heightMax_1 rfl (lv_at hl 3 rfl) ?_
  refine lv_aload_n hx hb dX1_heightMax_2 rfl (lv_at hl 0 rfl) ?_
  refine lv_iload_n hx hb dX1_heightMax_3 rfl (lv_at hl 1 rfl) ?_
  obtain ⟨o1, eo1, h⟩ := bind_step h
  refine r_cp (r_runV (rest := [.int x3, .ref x0]) (As := [.int x1]) hC 1 (m_X1_heightAt x0 x0r0 x0r1 x0r2  x0r0c x0r1c x0r2c x0f3 x0f4 x0f5 x0f6 x1 o1 eo1) q1202 q1204 qs13 q46 q1205 (OA.recv hS h_x0.OA (C := RX1) rfl) hd_X1_heightAt rfl ⟨Nat.le_of_ble_eq_true rfl, Nat.le_of_ble_eq_true rfl⟩ hS ⟨h_x0, h_x0r0, h_x0r1, h_x0r2⟩ hl.1 rfl (Nat.le_of_ble_eq_true rfl) dX1_heightMax_4 ⟨Nat.le_of_ble_eq_true rfl, Nat.le_of_ble_eq_true rfl⟩) ?_
  refine lv_aload_n hx hb dX1_heightMax_7 rfl (lv_at hl 0 rfl) ?_
  refine lv_iload_n hx hb dX1_heightMax_8 rfl (lv_at hl 2 rfl) ?_
  obtain ⟨o2, eo2, h⟩ := bind_step h
  refine r_cp (r_runV (rest := [.double o1, .int x3, .ref x0]) (As := [.int x2]) hC 1 (m_X1_heightAt x0 x0r0 x0r1 x0r2  x0r0c x0r1c x0r2c x0f3 x0f4 x0f5 x0f6 x2 o2 eo2) q1202 q1204 qs13 q46 q1205 (OA.recv hS h_x0.OA (C := RX1) rfl) hd_X1_heightAt rfl ⟨Nat.le_of_ble_eq_true rfl, Nat.le_of_ble_eq_true rfl⟩ hS ⟨h_x0, h_x0r0, h_x0r1, h_x0r2⟩ hl.1 rfl (Nat.le_of_ble_eq_true rfl) dX1_heightMax_9 ⟨Nat.le_of_ble_eq_true rfl, Nat.le_of_ble_eq_true rfl⟩) ?_
  obtain ⟨o3, eo3, h⟩ := bind_step h
  refine r_cp (r_runS (rest := [.int x3, .ref x0]) (As := [.double o1, .double o2]) hC 2 (m_J10_max   o1 o2 o3 eo3) q1716 q1717 q51 q1718 hd_J10_max rfl ⟨Nat.le_of_ble_eq_true rfl, Nat.le_of_ble_eq_true rfl⟩ hS trivial hl.1 rfl (Nat.le_of_ble_eq_true rfl) dX1_heightMax_12 ⟨Nat.le_of_ble_eq_true rfl, Nat.le_of_ble_eq_true rfl⟩) ?_
  obtain ⟨o4, eo4, h⟩ := bind_step h
  refine r_ci (r_runV (rest := []) (As := [.int x3, .double o3]) hC 2 (m_X1_heightPut x0 x0r0 x0r1 x0r2  x0r0c x0r1c x0r2c x0f3 x0f4 x0f5 x0f6 x3 o3 o4 eo4) q1377 q1379 qs24 q46 q1380 (OA.recv hS h_x0.OA (C := RX1) rfl) hd_X1_heightPut rfl ⟨Nat.le_of_ble_eq_true rfl, Nat.le_of_ble_eq_true rfl⟩ hS ⟨h_x0, hB_h_x0, h_x0r0, h_x0r1, hB_h_x0r1, h_x0r2, ne_x0_x0r0, ne_x0_x0r1, ne_x0_x0r2, ne_x0r0_x0r1, ne_x0r1_x0r2⟩ hl.1 rfl (Nat.le_of_ble_eq_true rfl) dX1_heightMax_15 ⟨Nat.le_of_ble_eq_true rfl, Nat.le_of_ble_eq_true rfl⟩) hS (fun b H locs hp hS hz => ?_)
  obtain ⟨rfl, h_x0, h_x0r1, hO⟩ := hp
  have h_x0r0 := h_x0r0.off hO (fun z => by rcases z with z | z <;> first | exact (Ne.symm ne_x0_x0r0) z | exact ne_x0r0_x0r1 z)
  have h_x0r2 := h_x0r2.off hO (fun z => by rcases z with z | z <;> first | exact (Ne.symm ne_x0_x0r2) z | exact (Ne.symm ne_x0r1_x0r2) z)
  have hF := hF.fresh hO (fun a ha z => by
    rcases z with z | z
    · exact Or.inl z
    · exact Or.inr (z))
  obtain rfl := Option.some.inj h
  rw [eQ]
  exact r_iret hx hb hr hlk hS (Nat.le_of_ble_eq_true rfl) (Nat.le_of_ble_eq_true rfl) dX1_heightMax_18 ⟨_, rfl, rfl, h_x0, h_x0r1, hF⟩

abbrev R_X1_heightBelow : Room := { frames := 3, cells := 0, slots := 0, locals := 63 }
noncomputable def f_X1_heightBelow (x0r0c : Nat → UInt64) (x0r1c : Nat → UInt64) (x0r2c : Nat → Int32) (x0f3 : Int32) (x0f4 : Int32) (x0f5 : Int32) (x0f6 : Int32) (x1 : Int32) (x2 : Int32) (x3 : Bool) : Option (Bool) :=
  Option.bind (f_X1_heightAt x0r0c x0r1c x0r2c x0f3 x0f4 x0f5 x0f6 x1) fun o1 =>
  Option.bind (f_X1_heightAt x0r0c x0r1c x0r2c x0f3 x0f4 x0f5 x0f6 x2) fun o2 =>
  (if x3 = true then
    lti (dcmpF o1 o2 .g) fun v6 =>
    (if 0 < v6 then
      some false
    else
      some true
    )
  else
    lti (dcmpF o1 o2 .g) fun v4 =>
    (if 0 ≤ v4 then
      some false
    else
      some true
    )
  )
theorem hd_X1_heightBelow : Hd yX1_heightBelow 3 := by unfold Hd; decide +kernel
set_option maxHeartbeats 4000000 in
set_option maxRecDepth 100000 in
theorem m_X1_heightBelow {l : Launch} {D : DD} (x0 : Nat) (x0r0 : Nat) (x0r1 : Nat) (x0r2 : Nat)  (x0r0c : Nat → UInt64) (x0r1c : Nat → UInt64) (x0r2c : Nat → Int32) (x0f3 : Int32) (x0f4 : Int32) (x0f5 : Int32) (x0f6 : Int32) (x1 : Int32) (x2 : Int32) (x3 : Bool) (r : Bool) (h : f_X1_heightBelow x0r0c x0r1c x0r2c x0f3 x0f4 x0f5 x0f6 x1 x2 x3 = some r) : MP l D yX1_heightBelow cX1_heightBelow 8 (some .boolean) 3 63 [.ref x0, .int x1, .int x2, .int (bI x3)] (fun H => ON D 0 x0 [.ref x0r0, .ref x0r1, .ref x0r2, .int x0f3, .int x0f4, .int x0f5, .int x0f6] H ∧ aD D x0r0 8 x0r0c H ∧ aD D x0r1 8 x0r1c H ∧ aZ D x0r2 8 x0r2c H) (some (.int (bI r))) := by
  refine MP.start (by decide +kernel) (Nat.le_of_ble_eq_true rfl) ?_
  intro p e s m below meth c ls hC hS hp hl
  obtain ⟨h_x0, h_x0r0, h_x0r1, h_x0r2⟩ := hp
  obtain ⟨hx, hb, hr, hlk, hml, hown, hts, hnm⟩ := id hC
  have hl : lv_has ls 8 [(0, .ref x0), (1, .int x1), (2, .int x2), (3, .int (bI x3))] := hl
  unfold f_X1_heightBelow at h
  have hS0 := hS
  obtain ⟨A, eA⟩ : ∃ A : Array Value, A = [.ref x0, .int x1, .int x2, .int (bI x3)].toArray := ⟨_, rfl⟩
  rw [← eA] at hC hts ⊢
  obtain ⟨Q, eQ⟩ : ∃ Q : State → Prop, Q = MQ below (PQ (some (.int (bI r)))) A s 0 0 (fun _ => False) := ⟨_, rfl⟩
  show W p l e R_X1_heightBelow s m A below meth c s.heap [] 0 0 _ _
  rw [← eQ]
  refine lv_aload_n hx hb dX1_heightBelow_0 rfl (lv_at hl 0 rfl) ?_
  refine lv_iload_n hx hb dX1_heightBelow_1 rfl (lv_at hl 1 rfl) ?_
  obtain ⟨o1, eo1, h⟩ := bind_step h
  refine r_cp (r_runV (rest := []) (As := [.int x1]) hC 1 (m_X1_heightAt x0 x0r0 x0r1 x0r2  x0r0c x0r1c x0r2c x0f3 x0f4 x0f5 x0f6 x1 o1 eo1) q1202 q1204 qs13 q46 q1205 (OA.recv hS h_x0.OA (C := RX1) rfl) hd_X1_heightAt rfl ⟨Nat.le_of_ble_eq_true rfl, Nat.le_of_ble_eq_true rfl⟩ hS ⟨h_x0, h_x0r0, h_x0r1, h_x0r2⟩ hl.1 rfl (Nat.le_of_ble_eq_true rfl) dX1_heightBelow_2 ⟨Nat.le_of_ble_eq_true rfl, Nat.le_of_ble_eq_true rfl⟩) ?_
  refine lv_dstore (lv' := [(4, .double o1), (0, .ref x0), (1, .int x1), (2, .int x2), (3, .int (bI x3))]) hx hb dX1_heightBelow_5 hl (by decide) rfl (fun ls hl => ?_)
  refine lv_aload_n hx hb dX1_heightBelow_7 rfl (lv_at hl 1 rfl) ?_
  refine lv_iload_n hx hb dX1_heightBelow_8 rfl (lv_at hl 3 rfl) ?_
  obtain ⟨o2, eo2, h⟩ := bind_step h
  refine r_cp (r_runV (rest := []) (As := [.int x2]) hC 1 (m_X1_heightAt x0 x0r0 x0r1 x0r2  x0r0c x0r1c x0r2c x0f3 x0f4 x0f5 x0f6 x2 o2 eo2) q1202 q1204 qs13 q46 q1205 (OA.recv hS h_x0.OA (C := RX1) rfl) hd_X1_heightAt rfl ⟨Nat.le_of_ble_eq_true rfl, Nat.le_of_ble_eq_true rfl⟩ hS ⟨h_x0, h_x0r0, h_x0r1, h_x0r2⟩ hl.1 rfl (Nat.le_of_ble_eq_true rfl) dX1_heightBelow_9 ⟨Nat.le_of_ble_eq_true rfl, Nat.le_of_ble_eq_true rfl⟩) ?_
  refine lv_dstore (lv' := [(6, .double o2), (4, .double o1), (0, .ref x0), (1, .int x1), (2, .int x2), (3, .int (bI x3))]) hx hb dX1_heightBelow_12 hl (by decide) rfl (fun ls hl => ?_)
  refine lv_iload_n hx hb dX1_heightBelow_14 rfl (lv_at hl 5 rfl) ?_
  refine r_ifz_eq (tgt := 34) hx hb dX1_heightBelow_15 (by decide) (fun c3 => ?_) (fun c3 => ?_)
  · have h := it_neg h (by rw [c3]; decide)
    refine lv_dload hx hb dX1_heightBelow_34 (lv_at hl 1 rfl) ?_
    refine lv_dload hx hb dX1_heightBelow_36 (lv_at hl 0 rfl) ?_
    obtain ⟨v4, ev4, h⟩ := lti_step h
    refine r_dcmp hx hb ev4 dX1_heightBelow_38 ?_
    refine lv_if_ge (tgt := 46) hx hb dX1_heightBelow_39 (by decide) (fun c5 => ?_) (fun c5 => ?_)
    · have h := it_pos h c5
      refine lv_iconst (v := 0) hx hb dX1_heightBelow_46 (by decide) ?_
      obtain rfl := Option.some.inj h
      rw [eQ]
      exact p_zret hx hb hr hlk (by decide) dX1_heightBelow_47 rfl
    · have h := it_neg h c5
      refine lv_iconst (v := 1) hx hb dX1_heightBelow_42 (by decide) ?_
      refine lv_goto (tgt := 47) hx hb dX1_heightBelow_43 (by decide) ?_
      obtain rfl := Option.some.inj h
      rw [eQ]
      exact p_zret hx hb hr hlk (by decide) dX1_heightBelow_47 rfl
  · have h := it_pos h (by rw [c3])
    refine lv_dload hx hb dX1_heightBelow_18 (lv_at hl 1 rfl) ?_
    refine lv_dload hx hb dX1_heightBelow_20 (lv_at hl 0 rfl) ?_
    obtain ⟨v6, ev6, h⟩ := lti_step h
    refine r_dcmp hx hb ev6 dX1_heightBelow_22 ?_
    refine lv_if_gt (tgt := 30) hx hb dX1_heightBelow_23 (by decide) (fun c7 => ?_) (fun c7 => ?_)
    · have h := it_pos h c7
      refine lv_iconst (v := 0) hx hb dX1_heightBelow_30 (by decide) ?_
      refine lv_goto (tgt := 47) hx hb dX1_heightBelow_31 (by decide) ?_
      obtain rfl := Option.some.inj h
      rw [eQ]
      exact p_zret hx hb hr hlk (by decide) dX1_heightBelow_47 rfl
    · have h := it_neg h c7
      refine lv_iconst (v := 1) hx hb dX1_heightBelow_26 (by decide) ?_
      refine lv_goto (tgt := 47) hx hb dX1_heightBelow_27 (by decide) ?_
      obtain rfl := Option.some.inj h
      rw [eQ]
      exact p_zret hx hb hr hlk (by decide) dX1_heightBelow_47 rfl

abbrev R_X1_heightSort : Room := { frames := 5, cells := 1, slots := 8, locals := 140 }
noncomputable def f_X1_heightSort (x0r0c : Nat → UInt64) (x0r1c : Nat → UInt64) (x0r2c : Nat → Int32) (x0f3 : Int32) (x0f4 : Int32) (x0f5 : Int32) (x0f6 : Int32) : Option (Int32 × Int32 × (Nat → UInt64)) :=
  lti (x0f4 + 1) fun v1 =>
  Option.bind (f_X1_sort x0r1c (fun _ => 0)) fun o3 =>
  some (o3.1, v1, o3.2.1)
theorem hd_X1_heightSort : Hd yX1_heightSort 0 := by unfold Hd; decide +kernel
set_option maxHeartbeats 4000000 in
set_option maxRecDepth 100000 in
theorem m_X1_heightSort {l : Launch} {D : DD} (x0 : Nat) (x0r0 : Nat) (x0r1 : Nat) (x0r2 : Nat)  (x0r0c : Nat → UInt64) (x0r1c : Nat → UInt64) (x0r2c : Nat → Int32) (x0f3 : Int32) (x0f4 : Int32) (x0f5 : Int32) (x0f6 : Int32) (r : Int32 × Int32 × (Nat → UInt64)) (h : f_X1_heightSort x0r0c x0r1c x0r2c x0f3 x0f4 x0f5 x0f6 = some r) : MT l D yX1_heightSort cX1_heightSort 1 (some .int) 5 140 1 8 [.ref x0] (fun H => ON D 0 x0 [.ref x0r0, .ref x0r1, .ref x0r2, .int x0f3, .int x0f4, .int x0f5, .int x0f6] H ∧ dB D ≤ x0 ∧ aD D x0r0 8 x0r0c H ∧ aD D x0r1 8 x0r1c H ∧ dB D ≤ x0r1 ∧ aZ D x0r2 8 x0r2c H ∧ x0 ≠ x0r0 ∧ x0 ≠ x0r1 ∧ x0 ≠ x0r2 ∧ x0r0 ≠ x0r1 ∧ x0r1 ≠ x0r2) (pI (fun H b H' => b = r.1 ∧ ON D 0 x0 [.ref x0r0, .ref x0r1, .ref x0r2, .int x0f3, .int r.2.1, .int x0f5, .int x0f6] H' ∧ aD D x0r1 8 r.2.2 H' ∧ Off (fun a => a = x0 ∨ a = x0r1) H H')) := by
  refine MT.start (by decide +kernel) (Nat.le_of_ble_eq_true rfl) ?_
  intro p e s m below meth c ls hC hS hp hl
  obtain ⟨h_x0, hB_h_x0, h_x0r0, h_x0r1, hB_h_x0r1, h_x0r2, ne_x0_x0r0, ne_x0_x0r1, ne_x0_x0r2, ne_x0r0_x0r1, ne_x0r1_x0r2⟩ := hp
  obtain ⟨hx, hb, hr, hlk, hml, hown, hts, hnm⟩ := id hC
  have hl : lv_has ls 1 [(0, .ref x0)] := hl
  unfold f_X1_heightSort at h
  have hS0 := hS
  obtain ⟨A, eA⟩ : ∃ A : Array Value, A = [.ref x0].toArray := ⟨_, rfl⟩
  rw [← eA] at hC hts ⊢
  obtain ⟨Q, eQ⟩ : ∃ Q : State → Prop, Q = MQ below (TQ D (pI (fun H b H' => b = r.1 ∧ ON D 0 x0 [.ref x0r0, .ref x0r1, .ref x0r2, .int x0f3, .int r.2.1, .int x0f5, .int x0f6] H' ∧ aD D x0r1 8 r.2.2 H' ∧ Off (fun a => a = x0 ∨ a = x0r1) H H'))) A s 1 8 (fun q => dB D ≤ q) := ⟨_, rfl⟩
  have hF : Off (fun a => a = x0 ∨ a = x0r1) s.heap s.heap := Off.rf
  show W p l e R_X1_heightSort s m A below meth c s.heap [] 0 0 _ _
  rw [← eQ]
  obtain ⟨H, eH⟩ : ∃ H : Heap, H = s.heap := ⟨_, rfl⟩
  obtain ⟨locs, eLc⟩ : ∃ L : List Loc, L = [] := ⟨_, rfl⟩
  have lt_h_x0 := h_x0.lt
  have lt_h_x0r0 := h_x0r0.lt
  have lt_h_x0r1 := h_x0r1.lt
  have lt_h_x0r2 := h_x0r2.lt
  rw [← eH, ← eLc]
  have hF : Off (fun a => a = x0 ∨ a = x0r1) s.heap H := by rw [eH]; exact hF
  rw [← eH] at h_x0
  rw [← eH] at h_x0r0
  rw [← eH] at h_x0r1
  rw [← eH] at h_x0r2
  have hS : St D s H locs := by rw [eH, eLc]; exact hS
  refine lv_aload_n hx hb dX1_heightSort_0 rfl (lv_at hl 0 rfl) ?_
  refine lv_dup hx hb dX1_heightSort_1 rfl ?_
  refine r_get hx hb hts hown hS h_x0.OA rfl in_X1 4 (by decide) q918 rfl (v := .int x0f4) rfl dX1_heightSort_2 ?_
  refine lv_iconst (v := 1) hx hb dX1_heightSort_5 (by decide) ?_
  obtain ⟨v1, ev1, h⟩ := lti_step h
  refine r_iadd hx hb ev1 dX1_heightSort_6 ?_
  refine r_put hx hb hts hown hS h_x0 hB_h_x0 rfl in_X1 tyX1 tyX1_ok nmX1 4 (Nat.le_of_ble_eq_true rfl) rfl q918 rfl rfl (v := .int v1) rfl (by rfl) dX1_heightSort_7 (fun H locs hS hO h_x0 => ?_)
  have h_x0 : ON D 0 x0 [.ref x0r0, .ref x0r1, .ref x0r2, .int x0f3, .int v1, .int x0f5, .int x0f6] H := h_x0
  have h_x0r0 := h_x0r0.off hO (Ne.symm ne_x0_x0r0)
  have h_x0r1 := h_x0r1.off hO (Ne.symm ne_x0_x0r1)
  have h_x0r2 := h_x0r2.off hO (Ne.symm ne_x0_x0r2)
  have hF := hF.fresh hO (fun a ha z => Or.inl z)
  refine lv_aload_n hx hb dX1_heightSort_10 rfl (lv_at hl 0 rfl) ?_
  refine r_get hx hb hts hown hS h_x0.OA rfl in_X1 1 (by decide) q915 rfl (v := .ref x0r1) rfl dX1_heightSort_11 ?_
  refine lv_bipush (v := 8) hx hb dX1_heightSort_14 (by decide) ?_
  refine r_newa hx hb hts hS (ty := .double) rfl q451 8 rfl (by decide) (by decide) (Nat.le_of_ble_eq_true rfl) (Nat.le_of_ble_eq_true rfl) dX1_heightSort_16 (fun ad2 H eq_ad2 hS hE had2 z_ad2 hB_had2 => ?_)
  have had2 : aD D ad2 8 (fun _ => 0) H := had2
  have gad2 : s.heap.size ≤ ad2 := by have := hF.1; omega
  have ne_h_x0_had2 : x0 ≠ ad2 := by have := h_x0.lt; omega
  have h_x0 := h_x0.ext hE
  have ne_h_x0r0_had2 : x0r0 ≠ ad2 := by have := h_x0r0.lt; omega
  have h_x0r0 := h_x0r0.ext hE
  have ne_h_x0r1_had2 : x0r1 ≠ ad2 := by have := h_x0r1.lt; omega
  have h_x0r1 := h_x0r1.ext hE
  have ne_h_x0r2_had2 : x0r2 ≠ ad2 := by have := h_x0r2.lt; omega
  have h_x0r2 := h_x0r2.ext hE
  have hF := hF.trans (hE.mono (fun _ _ z => z.elim))
  obtain ⟨o3, eo3, h⟩ := bind_step h
  refine r_ci (r_runS (rest := []) (As := [.ref x0r1, .ref ad2]) hC 2 (m_X1_sort x0r1 ad2  x0r1c (fun _ => 0) o3 eo3) q1670 q1671 q46 q1672 hd_X1_sort rfl ⟨Nat.le_of_ble_eq_true rfl, Nat.le_of_ble_eq_true rfl⟩ hS ⟨h_x0r1, hB_h_x0r1, had2, hB_had2, ne_h_x0r1_had2⟩ hl.1 rfl (Nat.le_of_ble_eq_true rfl) dX1_heightSort_18 ⟨Nat.le_of_ble_eq_true rfl, Nat.le_of_ble_eq_true rfl⟩) hS (fun b H locs hp hS hz => ?_)
  obtain ⟨rfl, h_x0r1, had2, hO⟩ := hp
  have h_x0 := h_x0.off hO (fun z => by rcases z with z | z <;> first | exact ne_x0_x0r1 z | exact ne_h_x0_had2 z)
  have h_x0r0 := h_x0r0.off hO (fun z => by rcases z with z | z <;> first | exact ne_x0r0_x0r1 z | exact ne_h_x0r0_had2 z)
  have h_x0r2 := h_x0r2.off hO (fun z => by rcases z with z | z <;> first | exact (Ne.symm ne_x0r1_x0r2) z | exact ne_h_x0r2_had2 z)
  have hF := hF.fresh hO (fun a ha z => by
    rcases z with z | z
    · exact Or.inr (z)
    · exact absurd (z ▸ ha) (Nat.not_lt.mpr gad2))
  obtain rfl := Option.some.inj h
  rw [eQ]
  exact r_iret hx hb hr hlk hS (Nat.le_of_ble_eq_true rfl) (Nat.le_of_ble_eq_true rfl) dX1_heightSort_21 ⟨_, rfl, rfl, h_x0, h_x0r1, hF⟩

abbrev R_X1_heightMin : Room := { frames := 5, cells := 0, slots := 0, locals := 113 }
noncomputable def f_X1_heightMin (x0r0c : Nat → UInt64) (x0r1c : Nat → UInt64) (x0r2c : Nat → Int32) (x0f3 : Int32) (x0f4 : Int32) (x0f5 : Int32) (x0f6 : Int32) (x1 : Int32) (x2 : Int32) (x3 : Int32) : Option (Int32 × Int32 × (Nat → UInt64)) :=
  Option.bind (f_X1_heightAt x0r0c x0r1c x0r2c x0f3 x0f4 x0f5 x0f6 x1) fun o1 =>
  Option.bind (f_X1_heightAt x0r0c x0r1c x0r2c x0f3 x0f4 x0f5 x0f6 x2) fun o2 =>
  Option.bind (f_J10_min o1 o2) fun o3 =>
  Option.bind (f_X1_heightPut x0r0c x0r1c x0r2c x0f3 x0f4 x0f5 x0f6 x3 o3) fun o4 =>
  some (o4.1, o4.2.1, o4.2.2)
theorem hd_X1_heightMin : Hd yX1_heightMin 3 := by unfold Hd; decide +kernel
set_option maxHeartbeats 4000000 in
set_option maxRecDepth 100000 in
theorem m_X1_heightMin {l : Launch} {D : DD} (x0 : Nat) (x0r0 : Nat) (x0r1 : Nat) (x0r2 : Nat)  (x0r0c : Nat → UInt64) (x0r1c : Nat → UInt64) (x0r2c : Nat → Int32) (x0f3 : Int32) (x0f4 : Int32) (x0f5 : Int32) (x0f6 : Int32) (x1 : Int32) (x2 : Int32) (x3 : Int32) (r : Int32 × Int32 × (Nat → UInt64)) (h : f_X1_heightMin x0r0c x0r1c x0r2c x0f3 x0f4 x0f5 x0f6 x1 x2 x3 = some r) : MT l D yX1_heightMin cX1_heightMin 4 (some .int) 5 113 0 0 [.ref x0, .int x1, .int x2, .int x3] (fun H => ON D 0 x0 [.ref x0r0, .ref x0r1, .ref x0r2, .int x0f3, .int x0f4, .int x0f5, .int x0f6] H ∧ dB D ≤ x0 ∧ aD D x0r0 8 x0r0c H ∧ aD D x0r1 8 x0r1c H ∧ dB D ≤ x0r1 ∧ aZ D x0r2 8 x0r2c H ∧ x0 ≠ x0r0 ∧ x0 ≠ x0r1 ∧ x0 ≠ x0r2 ∧ x0r0 ≠ x0r1 ∧ x0r1 ≠ x0r2) (pI (fun H b H' => b = r.1 ∧ ON D 0 x0 [.ref x0r0, .ref x0r1, .ref x0r2, .int x0f3, .int r.2.1, .int x0f5, .int x0f6] H' ∧ aD D x0r1 8 r.2.2 H' ∧ Off (fun a => a = x0 ∨ a = x0r1) H H')) := by
  refine MT.start (by decide +kernel) (Nat.le_of_ble_eq_true rfl) ?_
  intro p e s m below meth c ls hC hS hp hl
  obtain ⟨h_x0, hB_h_x0, h_x0r0, h_x0r1, hB_h_x0r1, h_x0r2, ne_x0_x0r0, ne_x0_x0r1, ne_x0_x0r2, ne_x0r0_x0r1, ne_x0r1_x0r2⟩ := hp
  obtain ⟨hx, hb, hr, hlk, hml, hown, hts, hnm⟩ := id hC
  have hl : lv_has ls 4 [(0, .ref x0), (1, .int x1), (2, .int x2), (3, .int x3)] := hl
  unfold f_X1_heightMin at h
  have hS0 := hS
  obtain ⟨A, eA⟩ : ∃ A : Array Value, A = [.ref x0, .int x1, .int x2, .int x3].toArray := ⟨_, rfl⟩
  rw [← eA] at hC hts ⊢
  obtain ⟨Q, eQ⟩ : ∃ Q : State → Prop, Q = MQ below (TQ D (pI (fun H b H' => b = r.1 ∧ ON D 0 x0 [.ref x0r0, .ref x0r1, .ref x0r2, .int x0f3, .int r.2.1, .int x0f5, .int x0f6] H' ∧ aD D x0r1 8 r.2.2 H' ∧ Off (fun a => a = x0 ∨ a = x0r1) H H'))) A s 0 0 (fun q => dB D ≤ q) := ⟨_, rfl⟩
  have hF : Off (fun a => a = x0 ∨ a = x0r1) s.heap s.heap := Off.rf
  show W p l e R_X1_heightMin s m A below meth c s.heap [] 0 0 _ _
  rw [← eQ]
  obtain ⟨H, eH⟩ : ∃ H : Heap, H = s.heap := ⟨_, rfl⟩
  obtain ⟨locs, eLc⟩ : ∃ L : List Loc, L = [] := ⟨_, rfl⟩
  have lt_h_x0 := h_x0.lt
  have lt_h_x0r0 := h_x0r0.lt
  have lt_h_x0r1 := h_x0r1.lt
  have lt_h_x0r2 := h_x0r2.lt
  rw [← eH, ← eLc]
  have hF : Off (fun a => a = x0 ∨ a = x0r1) s.heap H := by rw [eH]; exact hF
  rw [← eH] at h_x0
  rw [← eH] at h_x0r0
  rw [← eH] at h_x0r1
  rw [← eH] at h_x0r2
  have hS : St D s H locs := by rw [eH, eLc]; exact hS
  refine lv_aload_n hx hb dX1_heightMin_0 rfl (lv_at hl 0 rfl) ?_
  refine lv_iload_n hx hb dX1_heightMin_1 rfl (lv_at hl 3 rfl) ?_
  refine lv_aload_n hx hb dX1_heightMin_2 rfl (lv_at hl 0 rfl) ?_
  refine lv_iload_n hx hb dX1_heightMin_3 rfl (lv_at hl 1 rfl) ?_
  obtain ⟨o1, eo1, h⟩ := bind_step h
  refine r_cp (r_runV (rest := [.int x3, .ref x0]) (As := [.int x1]) hC 1 (m_X1_heightAt x0 x0r0 x0r1 x0r2  x0r0c x0r1c x0r2c x0f3 x0f4 x0f5 x0f6 x1 o1 eo1) q1202 q1204 qs13 q46 q1205 (OA.recv hS h_x0.OA (C := RX1) rfl) hd_X1_heightAt rfl ⟨Nat.le_of_ble_eq_true rfl, Nat.le_of_ble_eq_true rfl⟩ hS ⟨h_x0, h_x0r0, h_x0r1, h_x0r2⟩ hl.1 rfl (Nat.le_of_ble_eq_true rfl) dX1_heightMin_4 ⟨Nat.le_of_ble_eq_true rfl, Nat.le_of_ble_eq_true rfl⟩) ?_
  refine lv_aload_n hx hb dX1_heightMin_7 rfl (lv_at hl 0 rfl) ?_
  refine lv_iload_n hx hb dX1_heightMin_8 rfl (lv_at hl 2 rfl) ?_
  obtain ⟨o2, eo2, h⟩ := bind_step h
  refine r_cp (r_runV (rest := [.double o1, .int x3, .ref x0]) (As := [.int x2]) hC 1 (m_X1_heightAt x0 x0r0 x0r1 x0r2  x0r0c x0r1c x0r2c x0f3 x0f4 x0f5 x0f6 x2 o2 eo2) q1202 q1204 qs13 q46 q1205 (OA.recv hS h_x0.OA (C := RX1) rfl) hd_X1_heightAt rfl ⟨Nat.le_of_ble_eq_true rfl, Nat.le_of_ble_eq_true rfl⟩ hS ⟨h_x0, h_x0r0, h_x0r1, h_x0r2⟩ hl.1 rfl (Nat.le_of_ble_eq_true rfl) dX1_heightMin_9 ⟨Nat.le_of_ble_eq_true rfl, Nat.le_of_ble_eq_true rfl⟩) ?_
  obtain ⟨o3, eo3, h⟩ := bind_step h
  refine r_cp (r_runS (rest := [.int x3, .ref x0]) (As := [.double o1, .double o2]) hC 2 (m_J10_min   o1 o2 o3 eo3) q1745 q1746 q51 q1747 hd_J10_min rfl ⟨Nat.le_of_ble_eq_true rfl, Nat.le_of_ble_eq_true rfl⟩ hS trivial hl.1 rfl (Nat.le_of_ble_eq_true rfl) dX1_heightMin_12 ⟨Nat.le_of_ble_eq_true rfl, Nat.le_of_ble_eq_true rfl⟩) ?_
  obtain ⟨o4, eo4, h⟩ := bind_step h
  refine r_ci (r_runV (rest := []) (As := [.int x3, .double o3]) hC 2 (m_X1_heightPut x0 x0r0 x0r1 x0r2  x0r0c x0r1c x0r2c x0f3 x0f4 x0f5 x0f6 x3 o3 o4 eo4) q1377 q1379 qs24 q46 q1380 (OA.recv hS h_x0.OA (C := RX1) rfl) hd_X1_heightPut rfl ⟨Nat.le_of_ble_eq_true rfl, Nat.le_of_ble_eq_true rfl⟩ hS ⟨h_x0, hB_h_x0, h_x0r0, h_x0r1, hB_h_x0r1, h_x0r2, ne_x0_x0r0, ne_x0_x0r1, ne_x0_x0r2, ne_x0r0_x0r1, ne_x0r1_x0r2⟩ hl.1 rfl (Nat.le_of_ble_eq_true rfl) dX1_heightMin_15 ⟨Nat.le_of_ble_eq_true rfl, Nat.le_of_ble_eq_true rfl⟩) hS (fun b H locs hp hS hz => ?_)
  obtain ⟨rfl, h_x0, h_x0r1, hO⟩ := hp
  have h_x0r0 := h_x0r0.off hO (fun z => by rcases z with z | z <;> first | exact (Ne.symm ne_x0_x0r0) z | exact ne_x0r0_x0r1 z)
  have h_x0r2 := h_x0r2.off hO (fun z => by rcases z with z | z <;> first | exact (Ne.symm ne_x0_x0r2) z | exact (Ne.symm ne_x0r1_x0r2) z)
  have hF := hF.fresh hO (fun a ha z => by
    rcases z with z | z
    · exact Or.inl z
    · exact Or.inr (z))
  obtain rfl := Option.some.inj h
  rw [eQ]
  exact r_iret hx hb hr hlk hS (Nat.le_of_ble_eq_true rfl) (Nat.le_of_ble_eq_true rfl) dX1_heightMin_18 ⟨_, rfl, rfl, h_x0, h_x0r1, hF⟩

abbrev R_X1_heightEnd : Room := { frames := 5, cells := 0, slots := 0, locals := 113 }
noncomputable def f_X1_heightEnd (x0r0c : Nat → UInt64) (x0r1c : Nat → UInt64) (x0r2c : Nat → Int32) (x0f3 : Int32) (x0f4 : Int32) (x0f5 : Int32) (x0f6 : Int32) (x1 : Bool) (x2 : Int32) : Option (Int32 × Int32 × (Nat → UInt64)) :=
  Option.bind (f_X1_mustBeCell x2) fun o1 =>
  ltd (x0r1c 0) fun v2 =>
  lt (fun (v3 : UInt64) (v4 : Int32) =>
  (show Option (Sum (UInt64 × Int32) (UInt64)) from (
  (if 8 ≤ v4 then
    some (.inr v3)
  else
    gd 8 v4 fun i18 =>
    ltd (x0r1c i18) fun v19 =>
    lt (fun (v20 : UInt64) =>
    lti (v4 + 1) fun v22 =>
    some (.inl (v20, v22))
    ) fun K21 =>
    (if x1 = true then
      Option.bind (f_J10_max v3 v19) fun o25 =>
      K21 o25
    else
      Option.bind (f_J10_min v3 v19) fun o24 =>
      K21 o24
    )
  )
  ))
  ) fun F14 =>
  Option.bind (lp 9 (fun x => F14 x.1 x.2) (v2, 0)) fun w15 =>
  Option.bind (f_X1_heightPut x0r0c x0r1c x0r2c x0f3 x0f4 x0f5 x0f6 x2 w15) fun o26 =>
  some (o26.1, o26.2.1, o26.2.2)
theorem hd_X1_heightEnd : Hd yX1_heightEnd 2 := by unfold Hd; decide +kernel
set_option maxHeartbeats 4000000 in
set_option maxRecDepth 100000 in
theorem m_X1_heightEnd {l : Launch} {D : DD} (x0 : Nat) (x0r0 : Nat) (x0r1 : Nat) (x0r2 : Nat)  (x0r0c : Nat → UInt64) (x0r1c : Nat → UInt64) (x0r2c : Nat → Int32) (x0f3 : Int32) (x0f4 : Int32) (x0f5 : Int32) (x0f6 : Int32) (x1 : Bool) (x2 : Int32) (r : Int32 × Int32 × (Nat → UInt64)) (h : f_X1_heightEnd x0r0c x0r1c x0r2c x0f3 x0f4 x0f5 x0f6 x1 x2 = some r) : MT l D yX1_heightEnd cX1_heightEnd 10 (some .int) 5 113 0 0 [.ref x0, .int (bI x1), .int x2] (fun H => ON D 0 x0 [.ref x0r0, .ref x0r1, .ref x0r2, .int x0f3, .int x0f4, .int x0f5, .int x0f6] H ∧ dB D ≤ x0 ∧ aD D x0r0 8 x0r0c H ∧ aD D x0r1 8 x0r1c H ∧ dB D ≤ x0r1 ∧ aZ D x0r2 8 x0r2c H ∧ x0 ≠ x0r0 ∧ x0 ≠ x0r1 ∧ x0 ≠ x0r2 ∧ x0r0 ≠ x0r1 ∧ x0r1 ≠ x0r2) (pI (fun H b H' => b = r.1 ∧ ON D 0 x0 [.ref x0r0, .ref x0r1, .ref x0r2, .int x0f3, .int r.2.1, .int x0f5, .int x0f6] H' ∧ aD D x0r1 8 r.2.2 H' ∧ Off (fun a => a = x0 ∨ a = x0r1) H H')) := by
  refine MT.start (by decide +kernel) (Nat.le_of_ble_eq_true rfl) ?_
  intro p e s m below meth c ls hC hS hp hl
  obtain ⟨h_x0, hB_h_x0, h_x0r0, h_x0r1, hB_h_x0r1, h_x0r2, ne_x0_x0r0, ne_x0_x0r1, ne_x0_x0r2, ne_x0r0_x0r1, ne_x0r1_x0r2⟩ := hp
  obtain ⟨hx, hb, hr, hlk, hml, hown, hts, hnm⟩ := id hC
  have hl : lv_has ls 10 [(0, .ref x0), (1, .int (bI x1)), (2, .int x2)] := hl
  unfold f_X1_heightEnd at h
  have hS0 := hS
  obtain ⟨A, eA⟩ : ∃ A : Array Value, A = [.ref x0, .int (bI x1), .int x2].toArray := ⟨_, rfl⟩
  rw [← eA] at hC hts ⊢
  obtain ⟨Q, eQ⟩ : ∃ Q : State → Prop, Q = MQ below (TQ D (pI (fun H b H' => b = r.1 ∧ ON D 0 x0 [.ref x0r0, .ref x0r1, .ref x0r2, .int x0f3, .int r.2.1, .int x0f5, .int x0f6] H' ∧ aD D x0r1 8 r.2.2 H' ∧ Off (fun a => a = x0 ∨ a = x0r1) H H'))) A s 0 0 (fun q => dB D ≤ q) := ⟨_, rfl⟩
  have hF : Off (fun a => a = x0 ∨ a = x0r1) s.heap s.heap := Off.rf
  show W p l e R_X1_heightEnd s m A below meth c s.heap [] 0 0 _ _
  rw [← eQ]
  obtain ⟨H, eH⟩ : ∃ H : Heap, H = s.heap := ⟨_, rfl⟩
  obtain ⟨locs, eLc⟩ : ∃ L : List Loc, L = [] := ⟨_, rfl⟩
  have lt_h_x0 := h_x0.lt
  have lt_h_x0r0 := h_x0r0.lt
  have lt_h_x0r1 := h_x0r1.lt
  have lt_h_x0r2 := h_x0r2.lt
  rw [← eH, ← eLc]
  have hF : Off (fun a => a = x0 ∨ a = x0r1) s.heap H := by rw [eH]; exact hF
  rw [← eH] at h_x0
  rw [← eH] at h_x0r0
  rw [← eH] at h_x0r1
  rw [← eH] at h_x0r2
  have hS : St D s H locs := by rw [eH, eLc]; exact hS
  refine lv_iload_n hx hb dX1_heightEnd_0 rfl (lv_at hl 2 rfl) ?_
  obtain ⟨o1, eo1, h⟩ := bind_step h
  refine r_cpv (r_runS (rest := []) (As := [.int x2]) hC 1 (m_X1_mustBeCell   x2 o1 eo1) q956 q957 q46 q958 hd_X1_mustBeCell rfl ⟨Nat.le_of_ble_eq_true rfl, Nat.le_of_ble_eq_true rfl⟩ hS trivial hl.1 rfl (Nat.le_of_ble_eq_true rfl) dX1_heightEnd_1 ⟨Nat.le_of_ble_eq_true rfl, Nat.le_of_ble_eq_true rfl⟩) ?_
  refine lv_aload_n hx hb dX1_heightEnd_4 rfl (lv_at hl 0 rfl) ?_
  refine r_get hx hb hts hown hS h_x0.OA rfl in_X1 1 (by decide) q915 rfl (v := .ref x0r1) rfl dX1_heightEnd_5 ?_
  refine lv_iconst (v := 0) hx hb dX1_heightEnd_8 (by decide) ?_
  refine r_dald hx hb hS h_x0r1 0 ⟨rfl, by decide, by decide⟩ dX1_heightEnd_9 ?_
  obtain ⟨v2, ev2, h⟩ := ltd_step h
  refine r_nmD ev2 ?_
  refine lv_dstore_n (lv' := [(3, .double v2), (0, .ref x0), (1, .int (bI x1)), (2, .int x2)]) hx hb dX1_heightEnd_10 rfl hl (by decide) rfl (fun ls hl => ?_)
  refine lv_aload_n hx hb dX1_heightEnd_11 rfl (lv_at hl 1 rfl) ?_
  refine r_get hx hb hts hown hS h_x0.OA rfl in_X1 1 (by decide) q915 rfl (v := .ref x0r1) rfl dX1_heightEnd_12 ?_
  refine lv_astore (lv' := [(5, .ref x0r1), (3, .double v2), (0, .ref x0), (1, .int (bI x1)), (2, .int x2)]) hx hb dX1_heightEnd_15 hl (by decide) rfl (fun ls hl => ?_)
  refine lv_aload hx hb dX1_heightEnd_17 (lv_at hl 0 rfl) ?_
  refine r_alen hx hb hS h_x0r1 dX1_heightEnd_19 ?_
  refine lv_istore (lv' := [(6, .int 8), (5, .ref x0r1), (3, .double v2), (0, .ref x0), (1, .int (bI x1)), (2, .int x2)]) hx hb dX1_heightEnd_20 hl (by decide) rfl (fun ls hl => ?_)
  refine lv_iconst (v := 0) hx hb dX1_heightEnd_22 (by decide) ?_
  refine lv_istore (lv' := [(7, .int 0), (6, .int 8), (5, .ref x0r1), (3, .double v2), (0, .ref x0), (1, .int (bI x1)), (2, .int x2)]) hx hb dX1_heightEnd_23 hl (by decide) rfl (fun ls hl => ?_)
  obtain ⟨F14, eF14, h⟩ := lt_step h
  obtain ⟨w15, ew15, h⟩ := bind_step h
  have HL : ∀ (n : Nat) (v3 : UInt64) (v4 : Int32) (w15 : UInt64) (hk0 : lp n (fun x => F14 x.1 x.2) (v3, v4) = some w15)  (H : Heap) (locs : List Loc) (hS : St D s H locs) (hF : Off (fun a => a = x0 ∨ a = x0r1) s.heap H) (h_x0 : ON D 0 x0 [.ref x0r0, .ref x0r1, .ref x0r2, .int x0f3, .int x0f4, .int x0f5, .int x0f6] H) (h_x0r0 : aD D x0r0 8 x0r0c H) (h_x0r1 : aD D x0r1 8 x0r1c H) (h_x0r2 : aZ D x0r2 8 x0r2c H) (ls : Array Slot) (hl : lv_has ls 10 [(0, .ref x0), (1, .int (bI x1)), (2, .int x2), (3, .double v3), (5, .ref x0r1), (6, .int 8), (7, .int v4)]) (K65 : ∀ (H : Heap) (locs : List Loc) (hS : St D s H locs) (hF : Off (fun a => a = x0 ∨ a = x0r1) s.heap H) (h_x0 : ON D 0 x0 [.ref x0r0, .ref x0r1, .ref x0r2, .int x0f3, .int x0f4, .int x0f5, .int x0f6] H) (h_x0r0 : aD D x0r0 8 x0r0c H) (h_x0r1 : aD D x0r1 8 x0r1c H) (h_x0r2 : aZ D x0r2 8 x0r2c H) (ls : Array Slot) (hl : lv_has ls 10 [(0, .ref x0), (2, .int x2), (3, .double w15)]), W p l e R_X1_heightEnd s m A below meth c H locs 0 0 Q (F0 m 65 ls [])), W p l e R_X1_heightEnd s m A below meth c H locs 0 0 Q (F0 m 25 ls []) := by
    intro n
    induction n with
    | zero => intro v3 v4 w15 hk0  H locs hS hF h_x0 h_x0r0 h_x0r1 h_x0r2 ls hl K65; exact lp_zero hk0
    | succ n ih =>
      intro v3 v4 w15 hk0  H locs hS hF h_x0 h_x0r0 h_x0r1 h_x0r2 ls hl K65
      obtain ⟨z16, hz, hk⟩ := lp_step hk0
      have h := (congrFun (congrFun (eF14) v3) v4).symm.trans hz
      refine lv_iload hx hb dX1_heightEnd_25 (lv_at hl 6 rfl) ?_
      refine lv_iload hx hb dX1_heightEnd_27 (lv_at hl 5 rfl) ?_
      refine lv_icmp_ge (tgt := 65) hx hb dX1_heightEnd_29 (by decide) (fun c17 => ?_) (fun c17 => ?_)
      · have h := it_pos h c17
        obtain rfl := Option.some.inj h
        obtain rfl := id hk
        exact K65 H locs hS hF h_x0 h_x0r0 h_x0r1 h_x0r2 ls (lv_sub hl [0, 2, 3] rfl)
      · have h := it_neg h c17
        refine lv_aload hx hb dX1_heightEnd_32 (lv_at hl 4 rfl) ?_
        refine lv_iload hx hb dX1_heightEnd_34 (lv_at hl 6 rfl) ?_
        obtain ⟨i18, xi18, h⟩ := gd_step (by decide) h
        refine r_dald hx hb hS h_x0r1 i18 xi18 dX1_heightEnd_36 ?_
        obtain ⟨v19, ev19, h⟩ := ltd_step h
        refine r_nmD ev19 ?_
        refine lv_dstore (lv' := [(8, .double v19), (0, .ref x0), (1, .int (bI x1)), (2, .int x2), (3, .double v3), (5, .ref x0r1), (6, .int 8), (7, .int v4)]) hx hb dX1_heightEnd_37 hl (by decide) rfl (fun ls hl => ?_)
        refine lv_iload_n hx hb dX1_heightEnd_39 rfl (lv_at hl 2 rfl) ?_
        obtain ⟨K21, eK21, h⟩ := lt_step h
        have HK21 : ∀ (v20 : UInt64) (h : K21 v20 = some z16) (H : Heap) (locs : List Loc) (hS : St D s H locs) (hF : Off (fun a => a = x0 ∨ a = x0r1) s.heap H) (h_x0 : ON D 0 x0 [.ref x0r0, .ref x0r1, .ref x0r2, .int x0f3, .int x0f4, .int x0f5, .int x0f6] H) (h_x0r0 : aD D x0r0 8 x0r0c H) (h_x0r1 : aD D x0r1 8 x0r1c H) (h_x0r2 : aZ D x0r2 8 x0r2c H) (ls : Array Slot) (hl : lv_has ls 10 [(0, .ref x0), (1, .int (bI x1)), (2, .int x2), (5, .ref x0r1), (6, .int 8), (7, .int v4)]), W p l e R_X1_heightEnd s m A below meth c H locs 0 0 Q (F0 m 58 ls [.double v20]) := by
          intro v20 h H locs hS hF h_x0 h_x0r0 h_x0r1 h_x0r2 ls hl
          subst eK21
          refine lv_dstore_n (lv' := [(3, .double v20), (0, .ref x0), (1, .int (bI x1)), (2, .int x2), (5, .ref x0r1), (6, .int 8), (7, .int v4)]) hx hb dX1_heightEnd_58 rfl hl (by decide) rfl (fun ls hl => ?_)
          obtain ⟨v22, ev22, h⟩ := lti_step h
          refine lv_iinc (v := v22) (lv' := [(7, .int v22), (3, .double v20), (0, .ref x0), (1, .int (bI x1)), (2, .int x2), (5, .ref x0r1), (6, .int 8)]) hx hb dX1_heightEnd_59 hl (k := 6) rfl (by rw [ev22]; rfl) (by decide) rfl (fun ls hl => ?_)
          refine lv_goto (tgt := 25) hx hb dX1_heightEnd_62 (by decide) ?_
          obtain rfl := Option.some.inj h
          exact ih v20 v22 w15 hk  H locs hS hF h_x0 h_x0r0 h_x0r1 h_x0r2 ls (lv_sub hl [2, 3, 4, 1, 5, 6, 0] rfl) K65
        clear eK21
        refine r_ifz_eq (tgt := 52) hx hb dX1_heightEnd_40 (by decide) (fun c23 => ?_) (fun c23 => ?_)
        · have h := it_neg h (by rw [c23]; decide)
          refine lv_dload_n hx hb dX1_heightEnd_52 rfl (lv_at hl 4 rfl) ?_
          refine lv_dload hx hb dX1_heightEnd_53 (lv_at hl 0 rfl) ?_
          obtain ⟨o24, eo24, h⟩ := bind_step h
          refine r_cp (r_runS (rest := []) (As := [.double v3, .double v19]) hC 2 (m_J10_min   v3 v19 o24 eo24) q1745 q1746 q51 q1747 hd_J10_min rfl ⟨Nat.le_of_ble_eq_true rfl, Nat.le_of_ble_eq_true rfl⟩ hS trivial hl.1 rfl (Nat.le_of_ble_eq_true rfl) dX1_heightEnd_55 ⟨Nat.le_of_ble_eq_true rfl, Nat.le_of_ble_eq_true rfl⟩) ?_
          exact HK21 o24 h H locs hS hF h_x0 h_x0r0 h_x0r1 h_x0r2 ls (lv_sub hl [1, 2, 3, 5, 6, 7] rfl)
        · have h := it_pos h (by rw [c23])
          refine lv_dload_n hx hb dX1_heightEnd_43 rfl (lv_at hl 4 rfl) ?_
          refine lv_dload hx hb dX1_heightEnd_44 (lv_at hl 0 rfl) ?_
          obtain ⟨o25, eo25, h⟩ := bind_step h
          refine r_cp (r_runS (rest := []) (As := [.double v3, .double v19]) hC 2 (m_J10_max   v3 v19 o25 eo25) q1716 q1717 q51 q1718 hd_J10_max rfl ⟨Nat.le_of_ble_eq_true rfl, Nat.le_of_ble_eq_true rfl⟩ hS trivial hl.1 rfl (Nat.le_of_ble_eq_true rfl) dX1_heightEnd_46 ⟨Nat.le_of_ble_eq_true rfl, Nat.le_of_ble_eq_true rfl⟩) ?_
          refine lv_goto (tgt := 58) hx hb dX1_heightEnd_49 (by decide) ?_
          exact HK21 o25 h H locs hS hF h_x0 h_x0r0 h_x0r1 h_x0r2 ls (lv_sub hl [1, 2, 3, 5, 6, 7] rfl)
  clear eF14
  refine HL 9 v2 0 w15 ew15  H locs hS hF h_x0 h_x0r0 h_x0r1 h_x0r2 ls (lv_sub hl [4, 5, 6, 3, 2, 1, 0] rfl) (fun  H locs hS hF h_x0 h_x0r0 h_x0r1 h_x0r2 ls hl => ?_)
  refine lv_aload_n hx hb dX1_heightEnd_65 rfl (lv_at hl 0 rfl) ?_
  refine lv_iload_n hx hb dX1_heightEnd_66 rfl (lv_at hl 1 rfl) ?_
  refine lv_dload_n hx hb dX1_heightEnd_67 rfl (lv_at hl 2 rfl) ?_
  obtain ⟨o26, eo26, h⟩ := bind_step h
  refine r_ci (r_runV (rest := []) (As := [.int x2, .double w15]) hC 2 (m_X1_heightPut x0 x0r0 x0r1 x0r2  x0r0c x0r1c x0r2c x0f3 x0f4 x0f5 x0f6 x2 w15 o26 eo26) q1377 q1379 qs24 q46 q1380 (OA.recv hS h_x0.OA (C := RX1) rfl) hd_X1_heightPut rfl ⟨Nat.le_of_ble_eq_true rfl, Nat.le_of_ble_eq_true rfl⟩ hS ⟨h_x0, hB_h_x0, h_x0r0, h_x0r1, hB_h_x0r1, h_x0r2, ne_x0_x0r0, ne_x0_x0r1, ne_x0_x0r2, ne_x0r0_x0r1, ne_x0r1_x0r2⟩ hl.1 rfl (Nat.le_of_ble_eq_true rfl) dX1_heightEnd_68 ⟨Nat.le_of_ble_eq_true rfl, Nat.le_of_ble_eq_true rfl⟩) hS (fun b H locs hp hS hz => ?_)
  obtain ⟨rfl, h_x0, h_x0r1, hO⟩ := hp
  have h_x0r0 := h_x0r0.off hO (fun z => by rcases z with z | z <;> first | exact (Ne.symm ne_x0_x0r0) z | exact ne_x0r0_x0r1 z)
  have h_x0r2 := h_x0r2.off hO (fun z => by rcases z with z | z <;> first | exact (Ne.symm ne_x0_x0r2) z | exact (Ne.symm ne_x0r1_x0r2) z)
  have hF := hF.fresh hO (fun a ha z => by
    rcases z with z | z
    · exact Or.inl z
    · exact Or.inr (z))
  obtain rfl := Option.some.inj h
  rw [eQ]
  exact r_iret hx hb hr hlk hS (Nat.le_of_ble_eq_true rfl) (Nat.le_of_ble_eq_true rfl) dX1_heightEnd_71 ⟨_, rfl, rfl, h_x0, h_x0r1, hF⟩

abbrev R_X1_knock : Room := { frames := 0, cells := 0, slots := 0, locals := 0 }
noncomputable def f_X1_knock (x0r0c : Nat → UInt64) (x0r1c : Nat → UInt64) (x0r2c : Nat → Int32) (x0f3 : Int32) (x0f4 : Int32) (x0f5 : Int32) (x0f6 : Int32) : Option (Int32 × Int32) :=
  lti (x0f6 + 1) fun v1 =>
  some (v1, v1)
theorem hd_X1_knock : Hd yX1_knock 0 := by unfold Hd; decide +kernel
set_option maxHeartbeats 4000000 in
set_option maxRecDepth 100000 in
theorem m_X1_knock {l : Launch} {D : DD} (x0 : Nat) (x0r0 : Nat) (x0r1 : Nat) (x0r2 : Nat)  (x0r0c : Nat → UInt64) (x0r1c : Nat → UInt64) (x0r2c : Nat → Int32) (x0f3 : Int32) (x0f4 : Int32) (x0f5 : Int32) (x0f6 : Int32) (r : Int32 × Int32) (h : f_X1_knock x0r0c x0r1c x0r2c x0f3 x0f4 x0f5 x0f6 = some r) : MT l D yX1_knock cX1_knock 1 (some .int) 0 0 0 0 [.ref x0] (fun H => ON D 0 x0 [.ref x0r0, .ref x0r1, .ref x0r2, .int x0f3, .int x0f4, .int x0f5, .int x0f6] H ∧ dB D ≤ x0 ∧ aD D x0r0 8 x0r0c H ∧ aD D x0r1 8 x0r1c H ∧ aZ D x0r2 8 x0r2c H ∧ x0 ≠ x0r0 ∧ x0 ≠ x0r1 ∧ x0 ≠ x0r2) (pI (fun H b H' => b = r.1 ∧ ON D 0 x0 [.ref x0r0, .ref x0r1, .ref x0r2, .int x0f3, .int x0f4, .int x0f5, .int r.2] H' ∧ Off (fun a => a = x0) H H')) := by
  refine MT.start (by decide +kernel) (Nat.le_of_ble_eq_true rfl) ?_
  intro p e s m below meth c ls hC hS hp hl
  obtain ⟨h_x0, hB_h_x0, h_x0r0, h_x0r1, h_x0r2, ne_x0_x0r0, ne_x0_x0r1, ne_x0_x0r2⟩ := hp
  obtain ⟨hx, hb, hr, hlk, hml, hown, hts, hnm⟩ := id hC
  have hl : lv_has ls 1 [(0, .ref x0)] := hl
  unfold f_X1_knock at h
  have hS0 := hS
  obtain ⟨A, eA⟩ : ∃ A : Array Value, A = [.ref x0].toArray := ⟨_, rfl⟩
  rw [← eA] at hC hts ⊢
  obtain ⟨Q, eQ⟩ : ∃ Q : State → Prop, Q = MQ below (TQ D (pI (fun H b H' => b = r.1 ∧ ON D 0 x0 [.ref x0r0, .ref x0r1, .ref x0r2, .int x0f3, .int x0f4, .int x0f5, .int r.2] H' ∧ Off (fun a => a = x0) H H'))) A s 0 0 (fun q => dB D ≤ q) := ⟨_, rfl⟩
  have hF : Off (fun a => a = x0) s.heap s.heap := Off.rf
  show W p l e R_X1_knock s m A below meth c s.heap [] 0 0 _ _
  rw [← eQ]
  obtain ⟨H, eH⟩ : ∃ H : Heap, H = s.heap := ⟨_, rfl⟩
  obtain ⟨locs, eLc⟩ : ∃ L : List Loc, L = [] := ⟨_, rfl⟩
  have lt_h_x0 := h_x0.lt
  have lt_h_x0r0 := h_x0r0.lt
  have lt_h_x0r1 := h_x0r1.lt
  have lt_h_x0r2 := h_x0r2.lt
  rw [← eH, ← eLc]
  have hF : Off (fun a => a = x0) s.heap H := by rw [eH]; exact hF
  rw [← eH] at h_x0
  rw [← eH] at h_x0r0
  rw [← eH] at h_x0r1
  rw [← eH] at h_x0r2
  have hS : St D s H locs := by rw [eH, eLc]; exact hS
  refine lv_aload_n hx hb dX1_knock_0 rfl (lv_at hl 0 rfl) ?_
  refine lv_dup hx hb dX1_knock_1 rfl ?_
  refine r_get hx hb hts hown hS h_x0.OA rfl in_X1 6 (by decide) q920 rfl (v := .int x0f6) rfl dX1_knock_2 ?_
  refine lv_iconst (v := 1) hx hb dX1_knock_5 (by decide) ?_
  obtain ⟨v1, ev1, h⟩ := lti_step h
  refine r_iadd hx hb ev1 dX1_knock_6 ?_
  refine r_put hx hb hts hown hS h_x0 hB_h_x0 rfl in_X1 tyX1 tyX1_ok nmX1 6 (Nat.le_of_ble_eq_true rfl) rfl q920 rfl rfl (v := .int v1) rfl (by rfl) dX1_knock_7 (fun H locs hS hO h_x0 => ?_)
  have h_x0 : ON D 0 x0 [.ref x0r0, .ref x0r1, .ref x0r2, .int x0f3, .int x0f4, .int x0f5, .int v1] H := h_x0
  have h_x0r0 := h_x0r0.off hO (Ne.symm ne_x0_x0r0)
  have h_x0r1 := h_x0r1.off hO (Ne.symm ne_x0_x0r1)
  have h_x0r2 := h_x0r2.off hO (Ne.symm ne_x0_x0r2)
  have hF := hF.fresh hO (fun a ha z => z)
  refine lv_aload_n hx hb dX1_knock_10 rfl (lv_at hl 0 rfl) ?_
  refine r_get hx hb hts hown hS h_x0.OA rfl in_X1 6 (by decide) q920 rfl (v := .int v1) rfl dX1_knock_11 ?_
  obtain rfl := Option.some.inj h
  rw [eQ]
  exact r_iret hx hb hr hlk hS (Nat.le_of_ble_eq_true rfl) (Nat.le_of_ble_eq_true rfl) dX1_knock_14 ⟨_, rfl, rfl, h_x0, hF⟩

abbrev R_X1_exponentOf : Room := { frames := 3, cells := 0, slots := 0, locals := 65 }
noncomputable def f_X1_exponentOf (x0 : UInt64) : Option (Int32) :=
  Option.bind (f_X1_digitsOf x0) fun o1 =>
  ltl ((o1 &&& 9223372036854775807 : Int64)) fun v2 =>
  ltl (((v2 : Int64).toUInt64 >>> ((52 : Int32).toInt64.toUInt64 &&& Int64.toUInt64 63)).toInt64) fun v3 =>
  lti (v3.toInt32) fun v4 =>
  some v4
theorem hd_X1_exponentOf : Hd yX1_exponentOf 1 := by unfold Hd; decide +kernel
set_option maxHeartbeats 4000000 in
set_option maxRecDepth 100000 in
theorem m_X1_exponentOf {l : Launch} {D : DD}   (x0 : UInt64) (r : Int32) (h : f_X1_exponentOf x0 = some r) : MP l D yX1_exponentOf cX1_exponentOf 2 (some .int) 3 65 [.double x0] NoPre (some (.int r)) := by
  refine MP.start (by decide +kernel) (Nat.le_of_ble_eq_true rfl) ?_
  intro p e s m below meth c ls hC hS hp hl
  obtain ⟨hx, hb, hr, hlk, hml, hown, hts, hnm⟩ := id hC
  have hl : lv_has ls 2 [(0, .double x0)] := hl
  unfold f_X1_exponentOf at h
  have hS0 := hS
  obtain ⟨A, eA⟩ : ∃ A : Array Value, A = [.double x0].toArray := ⟨_, rfl⟩
  rw [← eA] at hC hts ⊢
  obtain ⟨Q, eQ⟩ : ∃ Q : State → Prop, Q = MQ below (PQ (some (.int r))) A s 0 0 (fun _ => False) := ⟨_, rfl⟩
  show W p l e R_X1_exponentOf s m A below meth c s.heap [] 0 0 _ _
  rw [← eQ]
  refine lv_dload_n hx hb dX1_exponentOf_0 rfl (lv_at hl 0 rfl) ?_
  obtain ⟨o1, eo1, h⟩ := bind_step h
  refine r_cp (r_runS (rest := []) (As := [.double x0]) hC 1 (m_X1_digitsOf   x0 o1 eo1) q363 q364 q46 q365 hd_X1_digitsOf rfl ⟨Nat.le_of_ble_eq_true rfl, Nat.le_of_ble_eq_true rfl⟩ hS trivial hl.1 rfl (Nat.le_of_ble_eq_true rfl) dX1_exponentOf_1 ⟨Nat.le_of_ble_eq_true rfl, Nat.le_of_ble_eq_true rfl⟩) ?_
  refine lv_ldc2 hx hb (v := 9223372036854775807) hown (hts _ q374) dX1_exponentOf_4 ?_
  obtain ⟨v2, ev2, h⟩ := ltl_step h
  refine r_land hx hb ev2 dX1_exponentOf_7 ?_
  refine lv_bipush (v := 52) hx hb dX1_exponentOf_8 (by decide) ?_
  obtain ⟨v3, ev3, h⟩ := ltl_step h
  refine r_lushr hx hb ev3 dX1_exponentOf_10 ?_
  obtain ⟨v4, ev4, h⟩ := lti_step h
  refine r_l2i hx hb ev4 dX1_exponentOf_11 ?_
  obtain rfl := Option.some.inj h
  rw [eQ]
  exact p_iret hx hb hr hlk dX1_exponentOf_12 rfl

abbrev R_X1_signOf : Room := { frames := 3, cells := 0, slots := 0, locals := 65 }
noncomputable def f_X1_signOf (x0 : UInt64) : Option (Int32) :=
  Option.bind (f_X1_digitsOf x0) fun o1 =>
  lti (lg_cmp o1 0) fun v2 =>
  (if 0 ≤ v2 then
    Option.bind (f_X1_bit false) fun o4 =>
    some o4
  else
    Option.bind (f_X1_bit true) fun o5 =>
    some o5
  )
theorem hd_X1_signOf : Hd yX1_signOf 1 := by unfold Hd; decide +kernel
set_option maxHeartbeats 4000000 in
set_option maxRecDepth 100000 in
theorem m_X1_signOf {l : Launch} {D : DD}   (x0 : UInt64) (r : Int32) (h : f_X1_signOf x0 = some r) : MP l D yX1_signOf cX1_signOf 2 (some .int) 3 65 [.double x0] NoPre (some (.int r)) := by
  refine MP.start (by decide +kernel) (Nat.le_of_ble_eq_true rfl) ?_
  intro p e s m below meth c ls hC hS hp hl
  obtain ⟨hx, hb, hr, hlk, hml, hown, hts, hnm⟩ := id hC
  have hl : lv_has ls 2 [(0, .double x0)] := hl
  unfold f_X1_signOf at h
  have hS0 := hS
  obtain ⟨A, eA⟩ : ∃ A : Array Value, A = [.double x0].toArray := ⟨_, rfl⟩
  rw [← eA] at hC hts ⊢
  obtain ⟨Q, eQ⟩ : ∃ Q : State → Prop, Q = MQ below (PQ (some (.int r))) A s 0 0 (fun _ => False) := ⟨_, rfl⟩
  show W p l e R_X1_signOf s m A below meth c s.heap [] 0 0 _ _
  rw [← eQ]
  refine lv_dload_n hx hb dX1_signOf_0 rfl (lv_at hl 0 rfl) ?_
  obtain ⟨o1, eo1, h⟩ := bind_step h
  refine r_cp (r_runS (rest := []) (As := [.double x0]) hC 1 (m_X1_digitsOf   x0 o1 eo1) q363 q364 q46 q365 hd_X1_digitsOf rfl ⟨Nat.le_of_ble_eq_true rfl, Nat.le_of_ble_eq_true rfl⟩ hS trivial hl.1 rfl (Nat.le_of_ble_eq_true rfl) dX1_signOf_1 ⟨Nat.le_of_ble_eq_true rfl, Nat.le_of_ble_eq_true rfl⟩) ?_
  refine lv_lconst (v := 0) hx hb dX1_signOf_4 rfl ?_
  obtain ⟨v2, ev2, h⟩ := lti_step h
  refine r_lcmp hx hb ev2 dX1_signOf_5 ?_
  refine lv_if_ge (tgt := 13) hx hb dX1_signOf_6 (by decide) (fun c3 => ?_) (fun c3 => ?_)
  · have h := it_pos h c3
    refine lv_iconst (v := 0) hx hb dX1_signOf_13 (by decide) ?_
    obtain ⟨o4, eo4, h⟩ := bind_step h
    refine r_cp (r_runS (rest := []) (As := [.int 0]) hC 1 (m_X1_bit   false o4 eo4) q389 q390 q46 q391 hd_X1_bit rfl ⟨Nat.le_of_ble_eq_true rfl, Nat.le_of_ble_eq_true rfl⟩ hS trivial hl.1 rfl (Nat.le_of_ble_eq_true rfl) dX1_signOf_14 ⟨Nat.le_of_ble_eq_true rfl, Nat.le_of_ble_eq_true rfl⟩) ?_
    obtain rfl := Option.some.inj h
    rw [eQ]
    exact p_iret hx hb hr hlk dX1_signOf_17 rfl
  · have h := it_neg h c3
    refine lv_iconst (v := 1) hx hb dX1_signOf_9 (by decide) ?_
    refine lv_goto (tgt := 14) hx hb dX1_signOf_10 (by decide) ?_
    obtain ⟨o5, eo5, h⟩ := bind_step h
    refine r_cp (r_runS (rest := []) (As := [.int 1]) hC 1 (m_X1_bit   true o5 eo5) q389 q390 q46 q391 hd_X1_bit rfl ⟨Nat.le_of_ble_eq_true rfl, Nat.le_of_ble_eq_true rfl⟩ hS trivial hl.1 rfl (Nat.le_of_ble_eq_true rfl) dX1_signOf_14 ⟨Nat.le_of_ble_eq_true rfl, Nat.le_of_ble_eq_true rfl⟩) ?_
    obtain rfl := Option.some.inj h
    rw [eQ]
    exact p_iret hx hb hr hlk dX1_signOf_17 rfl

abbrev R_X1_doublingsOf : Room := { frames := 4, cells := 0, slots := 0, locals := 86 }
noncomputable def f_X1_doublingsOf (x0 : UInt64) : Option (Int32) :=
  Option.bind (f_X1_fractionOf x0) fun o1 =>
  ltl (((o1 : Int64).toUInt64 >>> ((47 : Int32).toInt64.toUInt64 &&& Int64.toUInt64 63)).toInt64) fun v2 =>
  ltl ((v2 : Int64) <<< ((47 : Int32).toInt64 &&& 63)) fun v3 =>
  Option.bind (f_X1_fractionOf x0) fun o4 =>
  lti (lg_cmp v3 o4) fun v5 =>
  (if v5 = 0 then
    Option.bind (f_X1_exponentOf x0) fun o7 =>
    lti (o7 - 1028) fun v8 =>
    lti (lg_cmp v2 0) fun v9 =>
    lt (fun (v10 : Bool) =>
    Option.bind (f_X1_bit v10) fun o12 =>
    lti (v8 - o12) fun v13 =>
    Option.bind (f_X1_isIn v13 8 44) fun o14 =>
    (if o14 = true then
      some v13
    else
      some (-1)
    )
    ) fun K11 =>
    (if v9 = 0 then
      K11 true
    else
      K11 false
    )
  else
    some (-1)
  )
theorem hd_X1_doublingsOf : Hd yX1_doublingsOf 1 := by unfold Hd; decide +kernel
set_option maxHeartbeats 4000000 in
set_option maxRecDepth 100000 in
theorem m_X1_doublingsOf {l : Launch} {D : DD}   (x0 : UInt64) (r : Int32) (h : f_X1_doublingsOf x0 = some r) : MP l D yX1_doublingsOf cX1_doublingsOf 5 (some .int) 4 86 [.double x0] NoPre (some (.int r)) := by
  refine MP.start (by decide +kernel) (Nat.le_of_ble_eq_true rfl) ?_
  intro p e s m below meth c ls hC hS hp hl
  obtain ⟨hx, hb, hr, hlk, hml, hown, hts, hnm⟩ := id hC
  have hl : lv_has ls 5 [(0, .double x0)] := hl
  unfold f_X1_doublingsOf at h
  have hS0 := hS
  obtain ⟨A, eA⟩ : ∃ A : Array Value, A = [.double x0].toArray := ⟨_, rfl⟩
  rw [← eA] at hC hts ⊢
  obtain ⟨Q, eQ⟩ : ∃ Q : State → Prop, Q = MQ below (PQ (some (.int r))) A s 0 0 (fun _ => False) := ⟨_, rfl⟩
  show W p l e R_X1_doublingsOf s m A below meth c s.heap [] 0 0 _ _
  rw [← eQ]
  refine lv_dload_n hx hb dX1_doublingsOf_0 rfl (lv_at hl 0 rfl) ?_
  obtain ⟨o1, eo1, h⟩ := bind_step h
  refine r_cp (r_runS (rest := []) (As := [.double x0]) hC 1 (m_X1_fractionOf   x0 o1 eo1) q381 q382 q46 q383 hd_X1_fractionOf rfl ⟨Nat.le_of_ble_eq_true rfl, Nat.le_of_ble_eq_true rfl⟩ hS trivial hl.1 rfl (Nat.le_of_ble_eq_true rfl) dX1_doublingsOf_1 ⟨Nat.le_of_ble_eq_true rfl, Nat.le_of_ble_eq_true rfl⟩) ?_
  refine lv_bipush (v := 47) hx hb dX1_doublingsOf_4 (by decide) ?_
  obtain ⟨v2, ev2, h⟩ := ltl_step h
  refine r_lushr hx hb ev2 dX1_doublingsOf_6 ?_
  refine lv_lstore_n (lv' := [(2, .long v2), (0, .double x0)]) hx hb dX1_doublingsOf_7 rfl hl (by decide) rfl (fun ls hl => ?_)
  refine lv_lload_n hx hb dX1_doublingsOf_8 rfl (lv_at hl 0 rfl) ?_
  refine lv_bipush (v := 47) hx hb dX1_doublingsOf_9 (by decide) ?_
  obtain ⟨v3, ev3, h⟩ := ltl_step h
  refine r_lshl hx hb ev3 dX1_doublingsOf_11 ?_
  refine lv_dload_n hx hb dX1_doublingsOf_12 rfl (lv_at hl 1 rfl) ?_
  obtain ⟨o4, eo4, h⟩ := bind_step h
  refine r_cp (r_runS (rest := [.long v3]) (As := [.double x0]) hC 1 (m_X1_fractionOf   x0 o4 eo4) q381 q382 q46 q383 hd_X1_fractionOf rfl ⟨Nat.le_of_ble_eq_true rfl, Nat.le_of_ble_eq_true rfl⟩ hS trivial hl.1 rfl (Nat.le_of_ble_eq_true rfl) dX1_doublingsOf_13 ⟨Nat.le_of_ble_eq_true rfl, Nat.le_of_ble_eq_true rfl⟩) ?_
  obtain ⟨v5, ev5, h⟩ := lti_step h
  refine r_lcmp hx hb ev5 dX1_doublingsOf_16 ?_
  refine lv_if_eq (tgt := 22) hx hb dX1_doublingsOf_17 (by decide) (fun c6 => ?_) (fun c6 => ?_)
  · have h := it_pos h c6
    refine lv_dload_n hx hb dX1_doublingsOf_22 rfl (lv_at hl 1 rfl) ?_
    obtain ⟨o7, eo7, h⟩ := bind_step h
    refine r_cp (r_runS (rest := []) (As := [.double x0]) hC 1 (m_X1_exponentOf   x0 o7 eo7) q360 q361 q46 q362 hd_X1_exponentOf rfl ⟨Nat.le_of_ble_eq_true rfl, Nat.le_of_ble_eq_true rfl⟩ hS trivial hl.1 rfl (Nat.le_of_ble_eq_true rfl) dX1_doublingsOf_23 ⟨Nat.le_of_ble_eq_true rfl, Nat.le_of_ble_eq_true rfl⟩) ?_
    refine lv_sipush (v := 1028) hx hb dX1_doublingsOf_26 (by decide) ?_
    obtain ⟨v8, ev8, h⟩ := lti_step h
    refine r_isub hx hb ev8 dX1_doublingsOf_29 ?_
    refine lv_lload_n hx hb dX1_doublingsOf_30 rfl (lv_at hl 0 rfl) ?_
    refine lv_lconst (v := 0) hx hb dX1_doublingsOf_31 rfl ?_
    obtain ⟨v9, ev9, h⟩ := lti_step h
    refine r_lcmp hx hb ev9 dX1_doublingsOf_32 ?_
    obtain ⟨K11, eK11, h⟩ := lt_step h
    have HK11 : ∀ (v10 : Bool) (h : K11 v10 = some r)  (ls : Array Slot) (hl : lv_has ls 5 []), W p l e R_X1_doublingsOf s m A below meth c s.heap [] 0 0 Q (F0 m 41 ls [.int (bI v10), .int v8]) := by
      intro v10 h  ls hl
      subst eK11
      obtain ⟨o12, eo12, h⟩ := bind_step h
      refine r_cp (r_runS (rest := [.int v8]) (As := [.int (bI v10)]) hC 1 (m_X1_bit   v10 o12 eo12) q389 q390 q46 q391 hd_X1_bit rfl ⟨Nat.le_of_ble_eq_true rfl, Nat.le_of_ble_eq_true rfl⟩ hS trivial hl.1 rfl (Nat.le_of_ble_eq_true rfl) dX1_doublingsOf_41 ⟨Nat.le_of_ble_eq_true rfl, Nat.le_of_ble_eq_true rfl⟩) ?_
      obtain ⟨v13, ev13, h⟩ := lti_step h
      refine r_isub hx hb ev13 dX1_doublingsOf_44 ?_
      refine lv_istore (lv' := [(4, .int v13)]) hx hb dX1_doublingsOf_45 hl (by decide) rfl (fun ls hl => ?_)
      refine lv_iload hx hb dX1_doublingsOf_47 (lv_at hl 0 rfl) ?_
      refine lv_bipush (v := 8) hx hb dX1_doublingsOf_49 (by decide) ?_
      refine lv_bipush (v := 44) hx hb dX1_doublingsOf_51 (by decide) ?_
      obtain ⟨o14, eo14, h⟩ := bind_step h
      refine r_cp (r_runS (rest := []) (As := [.int v13, .int 8, .int 44]) hC 3 (m_X1_isIn   v13 8 44 o14 eo14) q395 q396 q46 q397 hd_X1_isIn rfl ⟨Nat.le_of_ble_eq_true rfl, Nat.le_of_ble_eq_true rfl⟩ hS trivial hl.1 rfl (Nat.le_of_ble_eq_true rfl) dX1_doublingsOf_53 ⟨Nat.le_of_ble_eq_true rfl, Nat.le_of_ble_eq_true rfl⟩) ?_
      refine r_ifz_eq (tgt := 64) hx hb dX1_doublingsOf_56 (by decide) (fun c15 => ?_) (fun c15 => ?_)
      · have h := it_neg h (by rw [c15]; decide)
        refine lv_iconst (v := (-1)) hx hb dX1_doublingsOf_64 (by decide) ?_
        obtain rfl := Option.some.inj h
        rw [eQ]
        exact p_iret hx hb hr hlk dX1_doublingsOf_65 rfl
      · have h := it_pos h (by rw [c15])
        refine lv_iload hx hb dX1_doublingsOf_59 (lv_at hl 0 rfl) ?_
        refine lv_goto (tgt := 65) hx hb dX1_doublingsOf_61 (by decide) ?_
        obtain rfl := Option.some.inj h
        rw [eQ]
        exact p_iret hx hb hr hlk dX1_doublingsOf_65 rfl
    clear eK11
    refine lv_if_ne (tgt := 40) hx hb dX1_doublingsOf_33 (by decide) (fun c16 => ?_) (fun c16 => ?_)
    · have h := it_neg h c16
      refine lv_iconst (v := 0) hx hb dX1_doublingsOf_40 (by decide) ?_
      exact HK11 false h  ls (lv_sub hl [] rfl)
    · have h := it_pos h c16
      refine lv_iconst (v := 1) hx hb dX1_doublingsOf_36 (by decide) ?_
      refine lv_goto (tgt := 41) hx hb dX1_doublingsOf_37 (by decide) ?_
      exact HK11 true h  ls (lv_sub hl [] rfl)
  · have h := it_neg h c6
    refine lv_iconst (v := (-1)) hx hb dX1_doublingsOf_20 (by decide) ?_
    obtain rfl := Option.some.inj h
    rw [eQ]
    exact p_iret hx hb hr hlk dX1_doublingsOf_21 rfl

abbrev R_X1_exact : Room := { frames := 4, cells := 4, slots := 26, locals := 95 }
noncomputable def f_X1_exact (x0 : UInt64) (x1 : Int32) : Option (Int32 × Nat × (Nat → Int32)) :=
  Option.bind (f_X1_sizeOf x0) fun o1 =>
  lti (dcmpF o1 0 .l) fun v2 =>
  (if v2 = 0 then
    Option.bind (f_J16_valueOf 0) fun o28 =>
    some (o28.1, o28.2.1, o28.2.2)
  else
    Option.bind (f_X1_fractionOf x0) fun o4 =>
    ltl ((4503599627370496 ||| o4 : Int64)) fun v5 =>
    Option.bind (f_X1_signOf x0) fun o6 =>
    lt (fun (v7 : Int64) =>
    Option.bind (f_J16_valueOf v7) fun o9 =>
    Option.bind (f_X1_exponentOf x0) fun o16 =>
    lti (o16 - 1075) fun v17 =>
    lti (v17 + x1) fun v18 =>
    Option.bind (f_J16_shiftLeft o9.1 o9.2.1 o9.2.2 v18) fun o19 =>
    some (o19.1, o19.2.1, o19.2.2)
    ) fun K8 =>
    (if o6 = 1 then
      ltl (-v5) fun v27 =>
      K8 v27
    else
      K8 v5
    )
  )
theorem hd_X1_exact : Hd yX1_exact 2 := by unfold Hd; decide +kernel
set_option maxHeartbeats 4000000 in
set_option maxRecDepth 100000 in
theorem m_X1_exact {l : Launch} {D : DD}   (x0 : UInt64) (x1 : Int32) (r : Int32 × Nat × (Nat → Int32)) (h : f_X1_exact x0 x1 = some r) : MT l D yX1_exact cX1_exact 5 (some (.object "java/math/BigInteger")) 4 95 4 26 [.double x0, .int x1] NoPre (pR (fun H b H' => ∃ b_1 : Nat, ∃ b_2 b_3 b_4 b_5 : Int32, OA D 2 b [.int r.1, .ref b_1, .int b_2, .int b_3, .int b_4, .int b_5] H' ∧ aI D b_1 r.2.1 r.2.2 H' ∧ r.2.1 ≤ 1000000 ∧ Off (fun _ => False) H H')) := by
  refine MT.start (by decide +kernel) (Nat.le_of_ble_eq_true rfl) ?_
  intro p e s m below meth c ls hC hS hp hl
  obtain ⟨hx, hb, hr, hlk, hml, hown, hts, hnm⟩ := id hC
  have hl : lv_has ls 5 [(0, .double x0), (2, .int x1)] := hl
  unfold f_X1_exact at h
  have hS0 := hS
  obtain ⟨A, eA⟩ : ∃ A : Array Value, A = [.double x0, .int x1].toArray := ⟨_, rfl⟩
  rw [← eA] at hC hts ⊢
  obtain ⟨Q, eQ⟩ : ∃ Q : State → Prop, Q = MQ below (TQ D (pR (fun H b H' => ∃ b_1 : Nat, ∃ b_2 b_3 b_4 b_5 : Int32, OA D 2 b [.int r.1, .ref b_1, .int b_2, .int b_3, .int b_4, .int b_5] H' ∧ aI D b_1 r.2.1 r.2.2 H' ∧ r.2.1 ≤ 1000000 ∧ Off (fun _ => False) H H'))) A s 4 26 (fun q => dB D ≤ q) := ⟨_, rfl⟩
  have hF : Off (fun _ => False) s.heap s.heap := Off.rf
  show W p l e R_X1_exact s m A below meth c s.heap [] 0 0 _ _
  rw [← eQ]
  obtain ⟨H, eH⟩ : ∃ H : Heap, H = s.heap := ⟨_, rfl⟩
  obtain ⟨locs, eLc⟩ : ∃ L : List Loc, L = [] := ⟨_, rfl⟩
  rw [← eH, ← eLc]
  have hF : Off (fun _ => False) s.heap H := by rw [eH]; exact hF
  have hS : St D s H locs := by rw [eH, eLc]; exact hS
  refine lv_dload_n hx hb dX1_exact_0 rfl (lv_at hl 0 rfl) ?_
  obtain ⟨o1, eo1, h⟩ := bind_step h
  refine r_cp (r_runS (rest := []) (As := [.double x0]) hC 1 (m_X1_sizeOf   x0 o1 eo1) q375 q376 q46 q377 hd_X1_sizeOf rfl ⟨Nat.le_of_ble_eq_true rfl, Nat.le_of_ble_eq_true rfl⟩ hS trivial hl.1 rfl (Nat.le_of_ble_eq_true rfl) dX1_exact_1 ⟨Nat.le_of_ble_eq_true rfl, Nat.le_of_ble_eq_true rfl⟩) ?_
  refine lv_dconst0 hx hb dX1_exact_4 ?_
  obtain ⟨v2, ev2, h⟩ := lti_step h
  refine r_dcmp hx hb ev2 dX1_exact_5 ?_
  refine lv_if_ne (tgt := 14) hx hb dX1_exact_6 (by decide) (fun c3 => ?_) (fun c3 => ?_)
  · have h := it_neg h c3
    refine lv_ldc2 hx hb (v := 4503599627370496) hown (hts _ q380) dX1_exact_14 ?_
    refine lv_dload_n hx hb dX1_exact_17 rfl (lv_at hl 0 rfl) ?_
    obtain ⟨o4, eo4, h⟩ := bind_step h
    refine r_cp (r_runS (rest := [.long 4503599627370496]) (As := [.double x0]) hC 1 (m_X1_fractionOf   x0 o4 eo4) q381 q382 q46 q383 hd_X1_fractionOf rfl ⟨Nat.le_of_ble_eq_true rfl, Nat.le_of_ble_eq_true rfl⟩ hS trivial hl.1 rfl (Nat.le_of_ble_eq_true rfl) dX1_exact_18 ⟨Nat.le_of_ble_eq_true rfl, Nat.le_of_ble_eq_true rfl⟩) ?_
    obtain ⟨v5, ev5, h⟩ := ltl_step h
    refine r_lor hx hb ev5 dX1_exact_21 ?_
    refine lv_lstore_n (lv' := [(3, .long v5), (0, .double x0), (2, .int x1)]) hx hb dX1_exact_22 rfl hl (by decide) rfl (fun ls hl => ?_)
    refine lv_dload_n hx hb dX1_exact_23 rfl (lv_at hl 1 rfl) ?_
    obtain ⟨o6, eo6, h⟩ := bind_step h
    refine r_cp (r_runS (rest := []) (As := [.double x0]) hC 1 (m_X1_signOf   x0 o6 eo6) q386 q387 q46 q388 hd_X1_signOf rfl ⟨Nat.le_of_ble_eq_true rfl, Nat.le_of_ble_eq_true rfl⟩ hS trivial hl.1 rfl (Nat.le_of_ble_eq_true rfl) dX1_exact_24 ⟨Nat.le_of_ble_eq_true rfl, Nat.le_of_ble_eq_true rfl⟩) ?_
    refine lv_iconst (v := 1) hx hb dX1_exact_27 (by decide) ?_
    obtain ⟨K8, eK8, h⟩ := lt_step h
    have HK8 : ∀ (v7 : Int64) (h : K8 v7 = some r) (H : Heap) (locs : List Loc) (hS : St D s H locs) (hF : Off (fun _ => False) s.heap H) (ls : Array Slot) (hl : lv_has ls 5 [(0, .double x0), (2, .int x1)]), W p l e R_X1_exact s m A below meth c H locs 0 0 Q (F0 m 37 ls [.long v7]) := by
      intro v7 h H locs hS hF ls hl
      subst eK8
      obtain ⟨o9, eo9, h⟩ := bind_step h
      refine r_cr (r_runS (rest := []) (As := [.long v7]) hC 1 (m_J16_valueOf   v7 o9 eo9) q415 q416 q57 q417 hd_J16_valueOf rfl ⟨Nat.le_of_ble_eq_true rfl, Nat.le_of_ble_eq_true rfl⟩ hS trivial hl.1 rfl (Nat.le_of_ble_eq_true rfl) dX1_exact_37 ⟨Nat.le_of_ble_eq_true rfl, Nat.le_of_ble_eq_true rfl⟩) hS (fun ad10 H locs hp hS hz => ?_)
      obtain ⟨ad11, e12, e13, e14, e15, had10, had11, lo9_2_1, hO⟩ := hp
      have hF := hF.trans (hO.mono (fun _ _ z => z.elim))
      refine lv_dload_n hx hb dX1_exact_40 rfl (lv_at hl 0 rfl) ?_
      obtain ⟨o16, eo16, h⟩ := bind_step h
      refine r_cp (r_runS (rest := [.ref ad10]) (As := [.double x0]) hC 1 (m_X1_exponentOf   x0 o16 eo16) q360 q361 q46 q362 hd_X1_exponentOf rfl ⟨Nat.le_of_ble_eq_true rfl, Nat.le_of_ble_eq_true rfl⟩ hS trivial hl.1 rfl (Nat.le_of_ble_eq_true rfl) dX1_exact_41 ⟨Nat.le_of_ble_eq_true rfl, Nat.le_of_ble_eq_true rfl⟩) ?_
      refine lv_sipush (v := 1075) hx hb dX1_exact_44 (by decide) ?_
      obtain ⟨v17, ev17, h⟩ := lti_step h
      refine r_isub hx hb ev17 dX1_exact_47 ?_
      refine lv_iload_n hx hb dX1_exact_48 rfl (lv_at hl 1 rfl) ?_
      obtain ⟨v18, ev18, h⟩ := lti_step h
      refine r_iadd hx hb ev18 dX1_exact_49 ?_
      obtain ⟨o19, eo19, h⟩ := bind_step h
      refine r_cr (r_runV (rest := []) (As := [.int v18]) hC 1 (m_J16_shiftLeft ad10 ad11 e12 e13 e14 e15 o9.1 o9.2.1 o9.2.2 v18 o19 eo19) q454 q455 q456 q57 q457 (OA.recv hS had10 (C := RJ16) rfl) hd_J16_shiftLeft rfl ⟨Nat.le_of_ble_eq_true rfl, Nat.le_of_ble_eq_true rfl⟩ hS ⟨had10, had11, lo9_2_1⟩ hl.1 rfl (Nat.le_of_ble_eq_true rfl) dX1_exact_50 ⟨Nat.le_of_ble_eq_true rfl, Nat.le_of_ble_eq_true rfl⟩) hS (fun ad20 H locs hp hS hz => ?_)
      obtain ⟨ad21, e22, e23, e24, e25, had20, had21, lo19_2_1, hO⟩ := hp
      have had10 := had10.ext hO
      have had11 := had11.ext hO
      have hF := hF.trans (hO.mono (fun _ _ z => z.elim))
      obtain rfl := Option.some.inj h
      rw [eQ]
      exact r_aret hx hb hr (Or.inl ⟨_, rfl⟩) hlk hS (Nat.le_of_ble_eq_true rfl) (Nat.le_of_ble_eq_true rfl) dX1_exact_53 ⟨_, rfl, ad21, e22, e23, e24, e25, had20, had21, lo19_2_1, hF⟩
    clear eK8
    refine lv_icmp_ne (tgt := 36) hx hb dX1_exact_28 (by decide) (fun c26 => ?_) (fun c26 => ?_)
    · have h := it_neg h c26
      refine lv_lload_n hx hb dX1_exact_36 rfl (lv_at hl 0 rfl) ?_
      exact HK8 v5 h H locs hS hF ls (lv_sub hl [1, 2] rfl)
    · have h := it_pos h c26
      refine lv_lload_n hx hb dX1_exact_31 rfl (lv_at hl 0 rfl) ?_
      obtain ⟨v27, ev27, h⟩ := ltl_step h
      refine r_lneg hx hb ev27 dX1_exact_32 ?_
      refine lv_goto (tgt := 37) hx hb dX1_exact_33 (by decide) ?_
      exact HK8 v27 h H locs hS hF ls (lv_sub hl [1, 2] rfl)
  · have h := it_pos h c3
    refine lv_lconst (v := 0) hx hb dX1_exact_9 rfl ?_
    obtain ⟨o28, eo28, h⟩ := bind_step h
    refine r_cr (r_runS (rest := []) (As := [.long 0]) hC 1 (m_J16_valueOf   0 o28 eo28) q415 q416 q57 q417 hd_J16_valueOf rfl ⟨Nat.le_of_ble_eq_true rfl, Nat.le_of_ble_eq_true rfl⟩ hS trivial hl.1 rfl (Nat.le_of_ble_eq_true rfl) dX1_exact_10 ⟨Nat.le_of_ble_eq_true rfl, Nat.le_of_ble_eq_true rfl⟩) hS (fun ad29 H locs hp hS hz => ?_)
    obtain ⟨ad30, e31, e32, e33, e34, had29, had30, lo28_2_1, hO⟩ := hp
    have hF := hF.trans (hO.mono (fun _ _ z => z.elim))
    obtain rfl := Option.some.inj h
    rw [eQ]
    exact r_aret hx hb hr (Or.inl ⟨_, rfl⟩) hlk hS (Nat.le_of_ble_eq_true rfl) (Nat.le_of_ble_eq_true rfl) dX1_exact_13 ⟨_, rfl, ad30, e31, e32, e33, e34, had29, had30, lo28_2_1, hF⟩

abbrev R_X1_isNear : Room := { frames := 5, cells := 12, slots := 88, locals := 129 }
noncomputable def f_X1_isNear (x0f0 : Int32) (x0r1n : Nat) (x0r1c : Nat → Int32) (x1 : UInt64) (x2 : Int32) : Option (Bool) :=
  Option.bind (f_X1_exact x1 140) fun o1 =>
  Option.bind (f_J16_subtract_2 x0f0 x0r1n x0r1c o1.1 o1.2.1 o1.2.2) fun o8 =>
  Option.bind (f_J16_abs o8.1 o8.2.1 o8.2.2) fun o15 =>
  ltl (x2.toInt64) fun v22 =>
  Option.bind (f_J16_valueOf v22) fun o23 =>
  Option.bind (f_J16_shiftLeft o23.1 o23.2.1 o23.2.2 80) fun o30 =>
  Option.bind (f_J16_compareTo o15.1 o15.2.1 o15.2.2 o30.1 o30.2.1 o30.2.2) fun o37 =>
  (if 0 < o37 then
    some false
  else
    some true
  )
theorem hd_X1_isNear : Hd yX1_isNear 3 := by unfold Hd; decide +kernel
set_option maxHeartbeats 4000000 in
set_option maxRecDepth 100000 in
theorem m_X1_isNear {l : Launch} {D : DD} (x0 : Nat) (x0r1 : Nat) (x0e2 : Int32) (x0e3 : Int32) (x0e4 : Int32) (x0e5 : Int32) (x0f0 : Int32) (x0r1n : Nat) (x0r1c : Nat → Int32) (x1 : UInt64) (x2 : Int32) (r : Bool) (h : f_X1_isNear x0f0 x0r1n x0r1c x1 x2 = some r) : MT l D yX1_isNear cX1_isNear 5 (some .boolean) 5 129 12 88 [.ref x0, .double x1, .int x2] (fun H => OA D 2 x0 [.int x0f0, .ref x0r1, .int x0e2, .int x0e3, .int x0e4, .int x0e5] H ∧ aI D x0r1 x0r1n x0r1c H ∧ x0r1n ≤ 1000000) (pZ (fun H b H' => b = r ∧ Off (fun _ => False) H H')) := by
  refine MT.start (by decide +kernel) (Nat.le_of_ble_eq_true rfl) ?_
  intro p e s m below meth c ls hC hS hp hl
  obtain ⟨h_x0, h_x0r1, l_x0r1⟩ := hp
  obtain ⟨hx, hb, hr, hlk, hml, hown, hts, hnm⟩ := id hC
  have hl : lv_has ls 5 [(0, .ref x0), (1, .double x1), (3, .int x2)] := hl
  unfold f_X1_isNear at h
  have hS0 := hS
  obtain ⟨A, eA⟩ : ∃ A : Array Value, A = [.ref x0, .double x1, .int x2].toArray := ⟨_, rfl⟩
  rw [← eA] at hC hts ⊢
  obtain ⟨Q, eQ⟩ : ∃ Q : State → Prop, Q = MQ below (TQ D (pZ (fun H b H' => b = r ∧ Off (fun _ => False) H H'))) A s 12 88 (fun q => dB D ≤ q) := ⟨_, rfl⟩
  have hF : Off (fun _ => False) s.heap s.heap := Off.rf
  show W p l e R_X1_isNear s m A below meth c s.heap [] 0 0 _ _
  rw [← eQ]
  obtain ⟨H, eH⟩ : ∃ H : Heap, H = s.heap := ⟨_, rfl⟩
  obtain ⟨locs, eLc⟩ : ∃ L : List Loc, L = [] := ⟨_, rfl⟩
  have lt_h_x0 := h_x0.lt
  have lt_h_x0r1 := h_x0r1.lt
  rw [← eH, ← eLc]
  have hF : Off (fun _ => False) s.heap H := by rw [eH]; exact hF
  rw [← eH] at h_x0
  rw [← eH] at h_x0r1
  have hS : St D s H locs := by rw [eH, eLc]; exact hS
  refine lv_aload_n hx hb dX1_isNear_0 rfl (lv_at hl 0 rfl) ?_
  refine lv_dload_n hx hb dX1_isNear_1 rfl (lv_at hl 1 rfl) ?_
  refine lv_sipush (v := 140) hx hb dX1_isNear_2 (by decide) ?_
  obtain ⟨o1, eo1, h⟩ := bind_step h
  refine r_cr (r_runS (rest := [.ref x0]) (As := [.double x1, .int 140]) hC 2 (m_X1_exact   x1 140 o1 eo1) q412 q413 q46 q414 hd_X1_exact rfl ⟨Nat.le_of_ble_eq_true rfl, Nat.le_of_ble_eq_true rfl⟩ hS trivial hl.1 rfl (Nat.le_of_ble_eq_true rfl) dX1_isNear_5 ⟨Nat.le_of_ble_eq_true rfl, Nat.le_of_ble_eq_true rfl⟩) hS (fun ad2 H locs hp hS hz => ?_)
  obtain ⟨ad3, e4, e5, e6, e7, had2, had3, lo1_2_1, hO⟩ := hp
  have h_x0 := h_x0.ext hO
  have h_x0r1 := h_x0r1.ext hO
  have hF := hF.trans (hO.mono (fun _ _ z => z.elim))
  obtain ⟨o8, eo8, h⟩ := bind_step h
  refine r_cr (r_runV (rest := []) (As := [.ref ad2]) hC 1 (m_J16_subtract_2 x0 x0r1 ad2 ad3 x0e2 x0e3 x0e4 x0e5 e4 e5 e6 e7 x0f0 x0r1n x0r1c o1.1 o1.2.1 o1.2.2 o8 eo8) q891 q844 q845 q57 q846 (OA.recv hS h_x0 (C := RJ16) rfl) hd_J16_subtract_2 rfl ⟨Nat.le_of_ble_eq_true rfl, Nat.le_of_ble_eq_true rfl⟩ hS ⟨h_x0, h_x0r1, l_x0r1, had2, had3, lo1_2_1⟩ hl.1 rfl (Nat.le_of_ble_eq_true rfl) dX1_isNear_8 ⟨Nat.le_of_ble_eq_true rfl, Nat.le_of_ble_eq_true rfl⟩) hS (fun ad9 H locs hp hS hz => ?_)
  obtain ⟨ad10, e11, e12, e13, e14, had9, had10, lo8_2_1, hO⟩ := hp
  have h_x0 := h_x0.ext hO
  have h_x0r1 := h_x0r1.ext hO
  have had2 := had2.ext hO
  have had3 := had3.ext hO
  have hF := hF.trans (hO.mono (fun _ _ z => z.elim))
  obtain ⟨o15, eo15, h⟩ := bind_step h
  refine r_cr (r_runV (rest := []) (As := []) hC 0 (m_J16_abs ad9 ad10 e11 e12 e13 e14 o8.1 o8.2.1 o8.2.2 o15 eo15) q892 q813 q814 q57 q815 (OA.recv hS had9 (C := RJ16) rfl) hd_J16_abs rfl ⟨Nat.le_of_ble_eq_true rfl, Nat.le_of_ble_eq_true rfl⟩ hS ⟨had9, had10, lo8_2_1⟩ hl.1 rfl (Nat.le_of_ble_eq_true rfl) dX1_isNear_11 ⟨Nat.le_of_ble_eq_true rfl, Nat.le_of_ble_eq_true rfl⟩) hS (fun ad16 H locs hp hS hz => ?_)
  obtain ⟨ad17, e18, e19, e20, e21, had16, had17, lo15_2_1, hO⟩ := hp
  have h_x0 := h_x0.ext hO
  have h_x0r1 := h_x0r1.ext hO
  have had2 := had2.ext hO
  have had3 := had3.ext hO
  have had9 := had9.ext hO
  have had10 := had10.ext hO
  have hF := hF.trans (hO.mono (fun _ _ z => z.elim))
  refine lv_astore (lv' := [(4, .ref ad16), (0, .ref x0), (1, .double x1), (3, .int x2)]) hx hb dX1_isNear_14 hl (by decide) rfl (fun ls hl => ?_)
  refine lv_aload hx hb dX1_isNear_16 (lv_at hl 0 rfl) ?_
  refine lv_iload_n hx hb dX1_isNear_18 rfl (lv_at hl 3 rfl) ?_
  obtain ⟨v22, ev22, h⟩ := ltl_step h
  refine r_i2l hx hb ev22 dX1_isNear_19 ?_
  obtain ⟨o23, eo23, h⟩ := bind_step h
  refine r_cr (r_runS (rest := [.ref ad16]) (As := [.long v22]) hC 1 (m_J16_valueOf   v22 o23 eo23) q415 q416 q57 q417 hd_J16_valueOf rfl ⟨Nat.le_of_ble_eq_true rfl, Nat.le_of_ble_eq_true rfl⟩ hS trivial hl.1 rfl (Nat.le_of_ble_eq_true rfl) dX1_isNear_20 ⟨Nat.le_of_ble_eq_true rfl, Nat.le_of_ble_eq_true rfl⟩) hS (fun ad24 H locs hp hS hz => ?_)
  obtain ⟨ad25, e26, e27, e28, e29, had24, had25, lo23_2_1, hO⟩ := hp
  have h_x0 := h_x0.ext hO
  have h_x0r1 := h_x0r1.ext hO
  have had2 := had2.ext hO
  have had3 := had3.ext hO
  have had9 := had9.ext hO
  have had10 := had10.ext hO
  have had16 := had16.ext hO
  have had17 := had17.ext hO
  have hF := hF.trans (hO.mono (fun _ _ z => z.elim))
  refine lv_bipush (v := 80) hx hb dX1_isNear_23 (by decide) ?_
  obtain ⟨o30, eo30, h⟩ := bind_step h
  refine r_cr (r_runV (rest := [.ref ad16]) (As := [.int 80]) hC 1 (m_J16_shiftLeft ad24 ad25 e26 e27 e28 e29 o23.1 o23.2.1 o23.2.2 80 o30 eo30) q454 q455 q456 q57 q457 (OA.recv hS had24 (C := RJ16) rfl) hd_J16_shiftLeft rfl ⟨Nat.le_of_ble_eq_true rfl, Nat.le_of_ble_eq_true rfl⟩ hS ⟨had24, had25, lo23_2_1⟩ hl.1 rfl (Nat.le_of_ble_eq_true rfl) dX1_isNear_25 ⟨Nat.le_of_ble_eq_true rfl, Nat.le_of_ble_eq_true rfl⟩) hS (fun ad31 H locs hp hS hz => ?_)
  obtain ⟨ad32, e33, e34, e35, e36, had31, had32, lo30_2_1, hO⟩ := hp
  have h_x0 := h_x0.ext hO
  have h_x0r1 := h_x0r1.ext hO
  have had2 := had2.ext hO
  have had3 := had3.ext hO
  have had9 := had9.ext hO
  have had10 := had10.ext hO
  have had16 := had16.ext hO
  have had17 := had17.ext hO
  have had24 := had24.ext hO
  have had25 := had25.ext hO
  have hF := hF.trans (hO.mono (fun _ _ z => z.elim))
  obtain ⟨o37, eo37, h⟩ := bind_step h
  refine r_cp (r_runV (rest := []) (As := [.ref ad31]) hC 1 (m_J16_compareTo ad16 ad17 ad31 ad32 e18 e19 e20 e21 e33 e34 e35 e36 o15.1 o15.2.1 o15.2.2 o30.1 o30.2.1 o30.2.2 o37 eo37) q893 q894 q895 q57 q896 (OA.recv hS had16 (C := RJ16) rfl) hd_J16_compareTo rfl ⟨Nat.le_of_ble_eq_true rfl, Nat.le_of_ble_eq_true rfl⟩ hS ⟨had16, had17, lo15_2_1, had31, had32, lo30_2_1⟩ hl.1 rfl (Nat.le_of_ble_eq_true rfl) dX1_isNear_28 ⟨Nat.le_of_ble_eq_true rfl, Nat.le_of_ble_eq_true rfl⟩) ?_
  refine lv_if_gt (tgt := 38) hx hb dX1_isNear_31 (by decide) (fun c38 => ?_) (fun c38 => ?_)
  · have h := it_pos h c38
    refine lv_iconst (v := 0) hx hb dX1_isNear_38 (by decide) ?_
    obtain rfl := Option.some.inj h
    rw [eQ]
    exact r_zret hx hb hr hlk hS (by decide) (Nat.le_of_ble_eq_true rfl) (Nat.le_of_ble_eq_true rfl) dX1_isNear_39 ⟨_, rfl, rfl, hF⟩
  · have h := it_neg h c38
    refine lv_iconst (v := 1) hx hb dX1_isNear_34 (by decide) ?_
    refine lv_goto (tgt := 39) hx hb dX1_isNear_35 (by decide) ?_
    obtain rfl := Option.some.inj h
    rw [eQ]
    exact r_zret hx hb hr hlk hS (by decide) (Nat.le_of_ble_eq_true rfl) (Nat.le_of_ble_eq_true rfl) dX1_isNear_39 ⟨_, rfl, rfl, hF⟩

abbrev R_X1_product : Room := { frames := 6, cells := 11, slots := 82, locals := 155 }
noncomputable def f_X1_product (x0 : UInt64) (x1 : UInt64) : Option (Int32 × Nat × (Nat → Int32)) :=
  Option.bind (f_X1_exact x0 70) fun o1 =>
  Option.bind (f_X1_exact x1 70) fun o8 =>
  Option.bind (f_J16_multiply o1.1 o1.2.1 o1.2.2 o8.1 o8.2.1 o8.2.2) fun o15 =>
  some (o15.1, o15.2.1, o15.2.2)
theorem hd_X1_product : Hd yX1_product 2 := by unfold Hd; decide +kernel
set_option maxHeartbeats 4000000 in
set_option maxRecDepth 100000 in
theorem m_X1_product {l : Launch} {D : DD}   (x0 : UInt64) (x1 : UInt64) (r : Int32 × Nat × (Nat → Int32)) (h : f_X1_product x0 x1 = some r) : MT l D yX1_product cX1_product 4 (some (.object "java/math/BigInteger")) 6 155 11 82 [.double x0, .double x1] NoPre (pR (fun H b H' => ∃ b_1 : Nat, ∃ b_2 b_3 b_4 b_5 : Int32, OA D 2 b [.int r.1, .ref b_1, .int b_2, .int b_3, .int b_4, .int b_5] H' ∧ aI D b_1 r.2.1 r.2.2 H' ∧ r.2.1 ≤ 1000000 ∧ Off (fun _ => False) H H')) := by
  refine MT.start (by decide +kernel) (Nat.le_of_ble_eq_true rfl) ?_
  intro p e s m below meth c ls hC hS hp hl
  obtain ⟨hx, hb, hr, hlk, hml, hown, hts, hnm⟩ := id hC
  have hl : lv_has ls 4 [(0, .double x0), (2, .double x1)] := hl
  unfold f_X1_product at h
  have hS0 := hS
  obtain ⟨A, eA⟩ : ∃ A : Array Value, A = [.double x0, .double x1].toArray := ⟨_, rfl⟩
  rw [← eA] at hC hts ⊢
  obtain ⟨Q, eQ⟩ : ∃ Q : State → Prop, Q = MQ below (TQ D (pR (fun H b H' => ∃ b_1 : Nat, ∃ b_2 b_3 b_4 b_5 : Int32, OA D 2 b [.int r.1, .ref b_1, .int b_2, .int b_3, .int b_4, .int b_5] H' ∧ aI D b_1 r.2.1 r.2.2 H' ∧ r.2.1 ≤ 1000000 ∧ Off (fun _ => False) H H'))) A s 11 82 (fun q => dB D ≤ q) := ⟨_, rfl⟩
  have hF : Off (fun _ => False) s.heap s.heap := Off.rf
  show W p l e R_X1_product s m A below meth c s.heap [] 0 0 _ _
  rw [← eQ]
  obtain ⟨H, eH⟩ : ∃ H : Heap, H = s.heap := ⟨_, rfl⟩
  obtain ⟨locs, eLc⟩ : ∃ L : List Loc, L = [] := ⟨_, rfl⟩
  rw [← eH, ← eLc]
  have hF : Off (fun _ => False) s.heap H := by rw [eH]; exact hF
  have hS : St D s H locs := by rw [eH, eLc]; exact hS
  refine lv_dload_n hx hb dX1_product_0 rfl (lv_at hl 0 rfl) ?_
  refine lv_bipush (v := 70) hx hb dX1_product_1 (by decide) ?_
  obtain ⟨o1, eo1, h⟩ := bind_step h
  refine r_cr (r_runS (rest := []) (As := [.double x0, .int 70]) hC 2 (m_X1_exact   x0 70 o1 eo1) q412 q413 q46 q414 hd_X1_exact rfl ⟨Nat.le_of_ble_eq_true rfl, Nat.le_of_ble_eq_true rfl⟩ hS trivial hl.1 rfl (Nat.le_of_ble_eq_true rfl) dX1_product_3 ⟨Nat.le_of_ble_eq_true rfl, Nat.le_of_ble_eq_true rfl⟩) hS (fun ad2 H locs hp hS hz => ?_)
  obtain ⟨ad3, e4, e5, e6, e7, had2, had3, lo1_2_1, hO⟩ := hp
  have hF := hF.trans (hO.mono (fun _ _ z => z.elim))
  refine lv_dload_n hx hb dX1_product_6 rfl (lv_at hl 1 rfl) ?_
  refine lv_bipush (v := 70) hx hb dX1_product_7 (by decide) ?_
  obtain ⟨o8, eo8, h⟩ := bind_step h
  refine r_cr (r_runS (rest := [.ref ad2]) (As := [.double x1, .int 70]) hC 2 (m_X1_exact   x1 70 o8 eo8) q412 q413 q46 q414 hd_X1_exact rfl ⟨Nat.le_of_ble_eq_true rfl, Nat.le_of_ble_eq_true rfl⟩ hS trivial hl.1 rfl (Nat.le_of_ble_eq_true rfl) dX1_product_9 ⟨Nat.le_of_ble_eq_true rfl, Nat.le_of_ble_eq_true rfl⟩) hS (fun ad9 H locs hp hS hz => ?_)
  obtain ⟨ad10, e11, e12, e13, e14, had9, had10, lo8_2_1, hO⟩ := hp
  have had2 := had2.ext hO
  have had3 := had3.ext hO
  have hF := hF.trans (hO.mono (fun _ _ z => z.elim))
  obtain ⟨o15, eo15, h⟩ := bind_step h
  refine r_cr (r_runV (rest := []) (As := [.ref ad9]) hC 1 (m_J16_multiply ad2 ad3 ad9 ad10 e4 e5 e6 e7 e11 e12 e13 e14 o1.1 o1.2.1 o1.2.2 o8.1 o8.2.1 o8.2.2 o15 eo15) q507 q508 q509 q57 q510 (OA.recv hS had2 (C := RJ16) rfl) hd_J16_multiply rfl ⟨Nat.le_of_ble_eq_true rfl, Nat.le_of_ble_eq_true rfl⟩ hS ⟨had2, had3, lo1_2_1, had9, had10, lo8_2_1⟩ hl.1 rfl (Nat.le_of_ble_eq_true rfl) dX1_product_12 ⟨Nat.le_of_ble_eq_true rfl, Nat.le_of_ble_eq_true rfl⟩) hS (fun ad16 H locs hp hS hz => ?_)
  obtain ⟨ad17, e18, e19, e20, e21, had16, had17, lo15_2_1, hO⟩ := hp
  have had2 := had2.ext hO
  have had3 := had3.ext hO
  have had9 := had9.ext hO
  have had10 := had10.ext hO
  have hF := hF.trans (hO.mono (fun _ _ z => z.elim))
  obtain rfl := Option.some.inj h
  rw [eQ]
  exact r_aret hx hb hr (Or.inl ⟨_, rfl⟩) hlk hS (Nat.le_of_ble_eq_true rfl) (Nat.le_of_ble_eq_true rfl) dX1_product_15 ⟨_, rfl, ad17, e18, e19, e20, e21, had16, had17, lo15_2_1, hF⟩

abbrev R_X1_isStepBy : Room := { frames := 9, cells := 55, slots := 537, locals := 1411 }
noncomputable def f_X1_isStepBy (x0 : Int32) (x1 : UInt64) (x2 : UInt64) (x3 : UInt64) : Option (Bool) :=
  Option.bind (f_J6_sin 4593671619917905920) fun o1 =>
  Option.bind (f_J6_cos 4593671619917905920) fun o2 =>
  (if x0 = 0 then
    Option.bind (f_X1_product x2 o2) fun o27 =>
    Option.bind (f_X1_product x3 o1) fun o34 =>
    Option.bind (f_J16_add o27.1 o27.2.1 o27.2.2 o34.1 o34.2.1 o34.2.2) fun o41 =>
    Option.bind (f_J6_sin x1) fun o48 =>
    Option.bind (f_X1_isNear o41.1 o41.2.1 o41.2.2 o48 201) fun o49 =>
    some o49
  else
    Option.bind (f_X1_product x3 o2) fun o4 =>
    Option.bind (f_X1_product x2 o1) fun o11 =>
    Option.bind (f_J16_subtract_2 o4.1 o4.2.1 o4.2.2 o11.1 o11.2.1 o11.2.2) fun o18 =>
    Option.bind (f_J6_cos x1) fun o25 =>
    Option.bind (f_X1_isNear o18.1 o18.2.1 o18.2.2 o25 216) fun o26 =>
    some o26
  )
theorem hd_X1_isStepBy : Hd yX1_isStepBy 4 := by unfold Hd; decide +kernel
set_option maxHeartbeats 4000000 in
set_option maxRecDepth 100000 in
theorem m_X1_isStepBy {l : Launch} {D : DD}   (x0 : Int32) (x1 : UInt64) (x2 : UInt64) (x3 : UInt64) (r : Bool) (h : f_X1_isStepBy x0 x1 x2 x3 = some r) : MT l D yX1_isStepBy cX1_isStepBy 11 (some .boolean) 9 1411 55 537 [.int x0, .double x1, .double x2, .double x3] NoPre (pZ (fun H b H' => b = r ∧ Off (fun _ => False) H H')) := by
  refine MT.start (by decide +kernel) (Nat.le_of_ble_eq_true rfl) ?_
  intro p e s m below meth c ls hC hS hp hl
  obtain ⟨hx, hb, hr, hlk, hml, hown, hts, hnm⟩ := id hC
  have hl : lv_has ls 11 [(0, .int x0), (1, .double x1), (3, .double x2), (5, .double x3)] := hl
  unfold f_X1_isStepBy at h
  have hS0 := hS
  obtain ⟨A, eA⟩ : ∃ A : Array Value, A = [.int x0, .double x1, .double x2, .double x3].toArray := ⟨_, rfl⟩
  rw [← eA] at hC hts ⊢
  obtain ⟨Q, eQ⟩ : ∃ Q : State → Prop, Q = MQ below (TQ D (pZ (fun H b H' => b = r ∧ Off (fun _ => False) H H'))) A s 55 537 (fun q => dB D ≤ q) := ⟨_, rfl⟩
  have hF : Off (fun _ => False) s.heap s.heap := Off.rf
  show W p l e R_X1_isStepBy s m A below meth c s.heap [] 0 0 _ _
  rw [← eQ]
  obtain ⟨H, eH⟩ : ∃ H : Heap, H = s.heap := ⟨_, rfl⟩
  obtain ⟨locs, eLc⟩ : ∃ L : List Loc, L = [] := ⟨_, rfl⟩
  rw [← eH, ← eLc]
  have hF : Off (fun _ => False) s.heap H := by rw [eH]; exact hF
  have hS : St D s H locs := by rw [eH, eLc]; exact hS
  refine lv_ldc2d hx hb (v := 4593671619917905920) hown (hts _ q910) dX1_isStepBy_0 ?_
  obtain ⟨o1, eo1, h⟩ := bind_step h
  refine r_cd (r_runS (rest := []) (As := [.double 4593671619917905920]) hC 1 (m_J6_sin 4593671619917905920  o1 eo1) q173 q174 q47 q175 hd_J6_sin rfl ⟨Nat.le_of_ble_eq_true rfl, Nat.le_of_ble_eq_true rfl⟩ hS trivial hl.1 rfl (Nat.le_of_ble_eq_true rfl) dX1_isStepBy_3 ⟨Nat.le_of_ble_eq_true rfl, Nat.le_of_ble_eq_true rfl⟩) hS (fun b H locs hp hS hz => ?_)
  obtain ⟨eb_, hO⟩ := hp
  rw [eb_]
  have hF := hF.trans (hO.mono (fun _ _ z => z.elim))
  refine lv_dstore (lv' := [(7, .double o1), (0, .int x0), (1, .double x1), (3, .double x2), (5, .double x3)]) hx hb dX1_isStepBy_6 hl (by decide) rfl (fun ls hl => ?_)
  refine lv_ldc2d hx hb (v := 4593671619917905920) hown (hts _ q910) dX1_isStepBy_8 ?_
  obtain ⟨o2, eo2, h⟩ := bind_step h
  refine r_cd (r_runS (rest := []) (As := [.double 4593671619917905920]) hC 1 (m_J6_cos 4593671619917905920  o2 eo2) q318 q319 q47 q320 hd_J6_cos rfl ⟨Nat.le_of_ble_eq_true rfl, Nat.le_of_ble_eq_true rfl⟩ hS trivial hl.1 rfl (Nat.le_of_ble_eq_true rfl) dX1_isStepBy_11 ⟨Nat.le_of_ble_eq_true rfl, Nat.le_of_ble_eq_true rfl⟩) hS (fun b H locs hp hS hz => ?_)
  obtain ⟨eb_, hO⟩ := hp
  rw [eb_]
  have hF := hF.trans (hO.mono (fun _ _ z => z.elim))
  refine lv_dstore (lv' := [(9, .double o2), (7, .double o1), (0, .int x0), (1, .double x1), (3, .double x2), (5, .double x3)]) hx hb dX1_isStepBy_14 hl (by decide) rfl (fun ls hl => ?_)
  refine lv_iload_n hx hb dX1_isStepBy_16 rfl (lv_at hl 2 rfl) ?_
  refine lv_if_ne (tgt := 47) hx hb dX1_isStepBy_17 (by decide) (fun c3 => ?_) (fun c3 => ?_)
  · have h := it_neg h c3
    refine lv_dload hx hb dX1_isStepBy_47 (lv_at hl 5 rfl) ?_
    refine lv_dload hx hb dX1_isStepBy_49 (lv_at hl 0 rfl) ?_
    obtain ⟨o4, eo4, h⟩ := bind_step h
    refine r_cr (r_runS (rest := []) (As := [.double x3, .double o2]) hC 2 (m_X1_product   x3 o2 o4 eo4) q900 q901 q46 q902 hd_X1_product rfl ⟨Nat.le_of_ble_eq_true rfl, Nat.le_of_ble_eq_true rfl⟩ hS trivial hl.1 rfl (Nat.le_of_ble_eq_true rfl) dX1_isStepBy_51 ⟨Nat.le_of_ble_eq_true rfl, Nat.le_of_ble_eq_true rfl⟩) hS (fun ad5 H locs hp hS hz => ?_)
    obtain ⟨ad6, e7, e8, e9, e10, had5, had6, lo4_2_1, hO⟩ := hp
    have hF := hF.trans (hO.mono (fun _ _ z => z.elim))
    refine lv_dload_n hx hb dX1_isStepBy_54 rfl (lv_at hl 4 rfl) ?_
    refine lv_dload hx hb dX1_isStepBy_55 (lv_at hl 1 rfl) ?_
    obtain ⟨o11, eo11, h⟩ := bind_step h
    refine r_cr (r_runS (rest := [.ref ad5]) (As := [.double x2, .double o1]) hC 2 (m_X1_product   x2 o1 o11 eo11) q900 q901 q46 q902 hd_X1_product rfl ⟨Nat.le_of_ble_eq_true rfl, Nat.le_of_ble_eq_true rfl⟩ hS trivial hl.1 rfl (Nat.le_of_ble_eq_true rfl) dX1_isStepBy_57 ⟨Nat.le_of_ble_eq_true rfl, Nat.le_of_ble_eq_true rfl⟩) hS (fun ad12 H locs hp hS hz => ?_)
    obtain ⟨ad13, e14, e15, e16, e17, had12, had13, lo11_2_1, hO⟩ := hp
    have had5 := had5.ext hO
    have had6 := had6.ext hO
    have hF := hF.trans (hO.mono (fun _ _ z => z.elim))
    obtain ⟨o18, eo18, h⟩ := bind_step h
    refine r_cr (r_runV (rest := []) (As := [.ref ad12]) hC 1 (m_J16_subtract_2 ad5 ad6 ad12 ad13 e7 e8 e9 e10 e14 e15 e16 e17 o4.1 o4.2.1 o4.2.2 o11.1 o11.2.1 o11.2.2 o18 eo18) q891 q844 q845 q57 q846 (OA.recv hS had5 (C := RJ16) rfl) hd_J16_subtract_2 rfl ⟨Nat.le_of_ble_eq_true rfl, Nat.le_of_ble_eq_true rfl⟩ hS ⟨had5, had6, lo4_2_1, had12, had13, lo11_2_1⟩ hl.1 rfl (Nat.le_of_ble_eq_true rfl) dX1_isStepBy_60 ⟨Nat.le_of_ble_eq_true rfl, Nat.le_of_ble_eq_true rfl⟩) hS (fun ad19 H locs hp hS hz => ?_)
    obtain ⟨ad20, e21, e22, e23, e24, had19, had20, lo18_2_1, hO⟩ := hp
    have had5 := had5.ext hO
    have had6 := had6.ext hO
    have had12 := had12.ext hO
    have had13 := had13.ext hO
    have hF := hF.trans (hO.mono (fun _ _ z => z.elim))
    refine lv_dload_n hx hb dX1_isStepBy_63 rfl (lv_at hl 3 rfl) ?_
    obtain ⟨o25, eo25, h⟩ := bind_step h
    refine r_cd (r_runS (rest := [.ref ad19]) (As := [.double x1]) hC 1 (m_J6_cos x1  o25 eo25) q318 q319 q47 q320 hd_J6_cos rfl ⟨Nat.le_of_ble_eq_true rfl, Nat.le_of_ble_eq_true rfl⟩ hS trivial hl.1 rfl (Nat.le_of_ble_eq_true rfl) dX1_isStepBy_64 ⟨Nat.le_of_ble_eq_true rfl, Nat.le_of_ble_eq_true rfl⟩) hS (fun b H locs hp hS hz => ?_)
    obtain ⟨eb_, hO⟩ := hp
    rw [eb_]
    have had5 := had5.ext hO
    have had6 := had6.ext hO
    have had12 := had12.ext hO
    have had13 := had13.ext hO
    have had19 := had19.ext hO
    have had20 := had20.ext hO
    have hF := hF.trans (hO.mono (fun _ _ z => z.elim))
    refine lv_sipush (v := 216) hx hb dX1_isStepBy_67 (by decide) ?_
    obtain ⟨o26, eo26, h⟩ := bind_step h
    refine r_cz (r_runS (rest := []) (As := [.ref ad19, .double o25, .int 216]) hC 3 (m_X1_isNear ad19 ad20 e21 e22 e23 e24 o18.1 o18.2.1 o18.2.2 o25 216 o26 eo26) q888 q889 q46 q890 hd_X1_isNear rfl ⟨Nat.le_of_ble_eq_true rfl, Nat.le_of_ble_eq_true rfl⟩ hS ⟨had19, had20, lo18_2_1⟩ hl.1 rfl (Nat.le_of_ble_eq_true rfl) dX1_isStepBy_70 ⟨Nat.le_of_ble_eq_true rfl, Nat.le_of_ble_eq_true rfl⟩) hS (fun b H locs hp hS hz => ?_)
    obtain ⟨eb_, hO⟩ := hp
    rw [eb_]
    have had5 := had5.ext hO
    have had6 := had6.ext hO
    have had12 := had12.ext hO
    have had13 := had13.ext hO
    have had19 := had19.ext hO
    have had20 := had20.ext hO
    have hF := hF.trans (hO.mono (fun _ _ z => z.elim))
    obtain rfl := Option.some.inj h
    rw [eQ]
    exact r_zret hx hb hr hlk hS (narB _) (Nat.le_of_ble_eq_true rfl) (Nat.le_of_ble_eq_true rfl) dX1_isStepBy_73 ⟨_, rfl, rfl, hF⟩
  · have h := it_pos h c3
    refine lv_dload_n hx hb dX1_isStepBy_20 rfl (lv_at hl 4 rfl) ?_
    refine lv_dload hx hb dX1_isStepBy_21 (lv_at hl 0 rfl) ?_
    obtain ⟨o27, eo27, h⟩ := bind_step h
    refine r_cr (r_runS (rest := []) (As := [.double x2, .double o2]) hC 2 (m_X1_product   x2 o2 o27 eo27) q900 q901 q46 q902 hd_X1_product rfl ⟨Nat.le_of_ble_eq_true rfl, Nat.le_of_ble_eq_true rfl⟩ hS trivial hl.1 rfl (Nat.le_of_ble_eq_true rfl) dX1_isStepBy_23 ⟨Nat.le_of_ble_eq_true rfl, Nat.le_of_ble_eq_true rfl⟩) hS (fun ad28 H locs hp hS hz => ?_)
    obtain ⟨ad29, e30, e31, e32, e33, had28, had29, lo27_2_1, hO⟩ := hp
    have hF := hF.trans (hO.mono (fun _ _ z => z.elim))
    refine lv_dload hx hb dX1_isStepBy_26 (lv_at hl 5 rfl) ?_
    refine lv_dload hx hb dX1_isStepBy_28 (lv_at hl 1 rfl) ?_
    obtain ⟨o34, eo34, h⟩ := bind_step h
    refine r_cr (r_runS (rest := [.ref ad28]) (As := [.double x3, .double o1]) hC 2 (m_X1_product   x3 o1 o34 eo34) q900 q901 q46 q902 hd_X1_product rfl ⟨Nat.le_of_ble_eq_true rfl, Nat.le_of_ble_eq_true rfl⟩ hS trivial hl.1 rfl (Nat.le_of_ble_eq_true rfl) dX1_isStepBy_30 ⟨Nat.le_of_ble_eq_true rfl, Nat.le_of_ble_eq_true rfl⟩) hS (fun ad35 H locs hp hS hz => ?_)
    obtain ⟨ad36, e37, e38, e39, e40, had35, had36, lo34_2_1, hO⟩ := hp
    have had28 := had28.ext hO
    have had29 := had29.ext hO
    have hF := hF.trans (hO.mono (fun _ _ z => z.elim))
    obtain ⟨o41, eo41, h⟩ := bind_step h
    refine r_cr (r_runV (rest := []) (As := [.ref ad35]) hC 1 (m_J16_add ad28 ad29 ad35 ad36 e30 e31 e32 e33 e37 e38 e39 e40 o27.1 o27.2.1 o27.2.2 o34.1 o34.2.1 o34.2.2 o41 eo41) q887 q830 q831 q57 q832 (OA.recv hS had28 (C := RJ16) rfl) hd_J16_add rfl ⟨Nat.le_of_ble_eq_true rfl, Nat.le_of_ble_eq_true rfl⟩ hS ⟨had28, had29, lo27_2_1, had35, had36, lo34_2_1⟩ hl.1 rfl (Nat.le_of_ble_eq_true rfl) dX1_isStepBy_33 ⟨Nat.le_of_ble_eq_true rfl, Nat.le_of_ble_eq_true rfl⟩) hS (fun ad42 H locs hp hS hz => ?_)
    obtain ⟨ad43, e44, e45, e46, e47, had42, had43, lo41_2_1, hO⟩ := hp
    have had28 := had28.ext hO
    have had29 := had29.ext hO
    have had35 := had35.ext hO
    have had36 := had36.ext hO
    have hF := hF.trans (hO.mono (fun _ _ z => z.elim))
    refine lv_dload_n hx hb dX1_isStepBy_36 rfl (lv_at hl 3 rfl) ?_
    obtain ⟨o48, eo48, h⟩ := bind_step h
    refine r_cd (r_runS (rest := [.ref ad42]) (As := [.double x1]) hC 1 (m_J6_sin x1  o48 eo48) q173 q174 q47 q175 hd_J6_sin rfl ⟨Nat.le_of_ble_eq_true rfl, Nat.le_of_ble_eq_true rfl⟩ hS trivial hl.1 rfl (Nat.le_of_ble_eq_true rfl) dX1_isStepBy_37 ⟨Nat.le_of_ble_eq_true rfl, Nat.le_of_ble_eq_true rfl⟩) hS (fun b H locs hp hS hz => ?_)
    obtain ⟨eb_, hO⟩ := hp
    rw [eb_]
    have had28 := had28.ext hO
    have had29 := had29.ext hO
    have had35 := had35.ext hO
    have had36 := had36.ext hO
    have had42 := had42.ext hO
    have had43 := had43.ext hO
    have hF := hF.trans (hO.mono (fun _ _ z => z.elim))
    refine lv_sipush (v := 201) hx hb dX1_isStepBy_40 (by decide) ?_
    obtain ⟨o49, eo49, h⟩ := bind_step h
    refine r_cz (r_runS (rest := []) (As := [.ref ad42, .double o48, .int 201]) hC 3 (m_X1_isNear ad42 ad43 e44 e45 e46 e47 o41.1 o41.2.1 o41.2.2 o48 201 o49 eo49) q888 q889 q46 q890 hd_X1_isNear rfl ⟨Nat.le_of_ble_eq_true rfl, Nat.le_of_ble_eq_true rfl⟩ hS ⟨had42, had43, lo41_2_1⟩ hl.1 rfl (Nat.le_of_ble_eq_true rfl) dX1_isStepBy_43 ⟨Nat.le_of_ble_eq_true rfl, Nat.le_of_ble_eq_true rfl⟩) hS (fun b H locs hp hS hz => ?_)
    obtain ⟨eb_, hO⟩ := hp
    rw [eb_]
    have had28 := had28.ext hO
    have had29 := had29.ext hO
    have had35 := had35.ext hO
    have had36 := had36.ext hO
    have had42 := had42.ext hO
    have had43 := had43.ext hO
    have hF := hF.trans (hO.mono (fun _ _ z => z.elim))
    obtain rfl := Option.some.inj h
    rw [eQ]
    exact r_zret hx hb hr hlk hS (narB _) (Nat.le_of_ble_eq_true rfl) (Nat.le_of_ble_eq_true rfl) dX1_isStepBy_46 ⟨_, rfl, rfl, hF⟩

abbrev R_X1_angleAt : Room := { frames := 2, cells := 0, slots := 0, locals := 42 }
noncomputable def f_X1_angleAt (x0r0c : Nat → UInt64) (x0r1c : Nat → UInt64) (x0r2c : Nat → Int32) (x0f3 : Int32) (x0f4 : Int32) (x0f5 : Int32) (x0f6 : Int32) (x1 : Int32) : Option (UInt64) :=
  Option.bind (f_X1_mustBeCell x1) fun o1 =>
  gd 8 x1 fun i2 =>
  ltd (x0r0c i2) fun v3 =>
  some v3
theorem hd_X1_angleAt : Hd yX1_angleAt 1 := by unfold Hd; decide +kernel
set_option maxHeartbeats 4000000 in
set_option maxRecDepth 100000 in
theorem m_X1_angleAt {l : Launch} {D : DD} (x0 : Nat) (x0r0 : Nat) (x0r1 : Nat) (x0r2 : Nat)  (x0r0c : Nat → UInt64) (x0r1c : Nat → UInt64) (x0r2c : Nat → Int32) (x0f3 : Int32) (x0f4 : Int32) (x0f5 : Int32) (x0f6 : Int32) (x1 : Int32) (r : UInt64) (h : f_X1_angleAt x0r0c x0r1c x0r2c x0f3 x0f4 x0f5 x0f6 x1 = some r) : MP l D yX1_angleAt cX1_angleAt 2 (some .double) 2 42 [.ref x0, .int x1] (fun H => ON D 0 x0 [.ref x0r0, .ref x0r1, .ref x0r2, .int x0f3, .int x0f4, .int x0f5, .int x0f6] H ∧ aD D x0r0 8 x0r0c H ∧ aD D x0r1 8 x0r1c H ∧ aZ D x0r2 8 x0r2c H) (some (.double r)) := by
  refine MP.start (by decide +kernel) (Nat.le_of_ble_eq_true rfl) ?_
  intro p e s m below meth c ls hC hS hp hl
  obtain ⟨h_x0, h_x0r0, h_x0r1, h_x0r2⟩ := hp
  obtain ⟨hx, hb, hr, hlk, hml, hown, hts, hnm⟩ := id hC
  have hl : lv_has ls 2 [(0, .ref x0), (1, .int x1)] := hl
  unfold f_X1_angleAt at h
  have hS0 := hS
  obtain ⟨A, eA⟩ : ∃ A : Array Value, A = [.ref x0, .int x1].toArray := ⟨_, rfl⟩
  rw [← eA] at hC hts ⊢
  obtain ⟨Q, eQ⟩ : ∃ Q : State → Prop, Q = MQ below (PQ (some (.double r))) A s 0 0 (fun _ => False) := ⟨_, rfl⟩
  show W p l e R_X1_angleAt s m A below meth c s.heap [] 0 0 _ _
  rw [← eQ]
  refine lv_iload_n hx hb dX1_angleAt_0 rfl (lv_at hl 1 rfl) ?_
  obtain ⟨o1, eo1, h⟩ := bind_step h
  refine r_cpv (r_runS (rest := []) (As := [.int x1]) hC 1 (m_X1_mustBeCell   x1 o1 eo1) q956 q957 q46 q958 hd_X1_mustBeCell rfl ⟨Nat.le_of_ble_eq_true rfl, Nat.le_of_ble_eq_true rfl⟩ hS trivial hl.1 rfl (Nat.le_of_ble_eq_true rfl) dX1_angleAt_1 ⟨Nat.le_of_ble_eq_true rfl, Nat.le_of_ble_eq_true rfl⟩) ?_
  refine lv_aload_n hx hb dX1_angleAt_4 rfl (lv_at hl 0 rfl) ?_
  refine r_get hx hb hts hown hS h_x0.OA rfl in_X1 0 (by decide) q914 rfl (v := .ref x0r0) rfl dX1_angleAt_5 ?_
  refine lv_iload_n hx hb dX1_angleAt_8 rfl (lv_at hl 1 rfl) ?_
  obtain ⟨i2, xi2, h⟩ := gd_step (by decide) h
  refine r_dald hx hb hS h_x0r0 i2 xi2 dX1_angleAt_9 ?_
  obtain ⟨v3, ev3, h⟩ := ltd_step h
  refine r_nmD ev3 ?_
  obtain rfl := Option.some.inj h
  rw [eQ]
  exact p_dret hx hb hr hlk dX1_angleAt_10 rfl

abbrev R_X1_angleUpper : Room := { frames := 3, cells := 0, slots := 0, locals := 65 }
noncomputable def f_X1_angleUpper (x0r0c : Nat → UInt64) (x0r1c : Nat → UInt64) (x0r2c : Nat → Int32) (x0f3 : Int32) (x0f4 : Int32) (x0f5 : Int32) (x0f6 : Int32) (x1 : Int32) : Option (Int32) :=
  Option.bind (f_X1_angleAt x0r0c x0r1c x0r2c x0f3 x0f4 x0f5 x0f6 x1) fun o1 =>
  Option.bind (f_X1_digitsOf o1) fun o2 =>
  ltl ((o2 : Int64) >>> ((32 : Int32).toInt64 &&& 63)) fun v3 =>
  lti (v3.toInt32) fun v4 =>
  some v4
theorem hd_X1_angleUpper : Hd yX1_angleUpper 1 := by unfold Hd; decide +kernel
set_option maxHeartbeats 4000000 in
set_option maxRecDepth 100000 in
theorem m_X1_angleUpper {l : Launch} {D : DD} (x0 : Nat) (x0r0 : Nat) (x0r1 : Nat) (x0r2 : Nat)  (x0r0c : Nat → UInt64) (x0r1c : Nat → UInt64) (x0r2c : Nat → Int32) (x0f3 : Int32) (x0f4 : Int32) (x0f5 : Int32) (x0f6 : Int32) (x1 : Int32) (r : Int32) (h : f_X1_angleUpper x0r0c x0r1c x0r2c x0f3 x0f4 x0f5 x0f6 x1 = some r) : MP l D yX1_angleUpper cX1_angleUpper 2 (some .int) 3 65 [.ref x0, .int x1] (fun H => ON D 0 x0 [.ref x0r0, .ref x0r1, .ref x0r2, .int x0f3, .int x0f4, .int x0f5, .int x0f6] H ∧ aD D x0r0 8 x0r0c H ∧ aD D x0r1 8 x0r1c H ∧ aZ D x0r2 8 x0r2c H) (some (.int r)) := by
  refine MP.start (by decide +kernel) (Nat.le_of_ble_eq_true rfl) ?_
  intro p e s m below meth c ls hC hS hp hl
  obtain ⟨h_x0, h_x0r0, h_x0r1, h_x0r2⟩ := hp
  obtain ⟨hx, hb, hr, hlk, hml, hown, hts, hnm⟩ := id hC
  have hl : lv_has ls 2 [(0, .ref x0), (1, .int x1)] := hl
  unfold f_X1_angleUpper at h
  have hS0 := hS
  obtain ⟨A, eA⟩ : ∃ A : Array Value, A = [.ref x0, .int x1].toArray := ⟨_, rfl⟩
  rw [← eA] at hC hts ⊢
  obtain ⟨Q, eQ⟩ : ∃ Q : State → Prop, Q = MQ below (PQ (some (.int r))) A s 0 0 (fun _ => False) := ⟨_, rfl⟩
  show W p l e R_X1_angleUpper s m A below meth c s.heap [] 0 0 _ _
  rw [← eQ]
  refine lv_aload_n hx hb dX1_angleUpper_0 rfl (lv_at hl 0 rfl) ?_
  refine lv_iload_n hx hb dX1_angleUpper_1 rfl (lv_at hl 1 rfl) ?_
  obtain ⟨o1, eo1, h⟩ := bind_step h
  refine r_cp (r_runV (rest := []) (As := [.int x1]) hC 1 (m_X1_angleAt x0 x0r0 x0r1 x0r2  x0r0c x0r1c x0r2c x0f3 x0f4 x0f5 x0f6 x1 o1 eo1) q952 q954 qs11 q46 q955 (OA.recv hS h_x0.OA (C := RX1) rfl) hd_X1_angleAt rfl ⟨Nat.le_of_ble_eq_true rfl, Nat.le_of_ble_eq_true rfl⟩ hS ⟨h_x0, h_x0r0, h_x0r1, h_x0r2⟩ hl.1 rfl (Nat.le_of_ble_eq_true rfl) dX1_angleUpper_2 ⟨Nat.le_of_ble_eq_true rfl, Nat.le_of_ble_eq_true rfl⟩) ?_
  obtain ⟨o2, eo2, h⟩ := bind_step h
  refine r_cp (r_runS (rest := []) (As := [.double o1]) hC 1 (m_X1_digitsOf   o1 o2 eo2) q363 q364 q46 q365 hd_X1_digitsOf rfl ⟨Nat.le_of_ble_eq_true rfl, Nat.le_of_ble_eq_true rfl⟩ hS trivial hl.1 rfl (Nat.le_of_ble_eq_true rfl) dX1_angleUpper_5 ⟨Nat.le_of_ble_eq_true rfl, Nat.le_of_ble_eq_true rfl⟩) ?_
  refine lv_bipush (v := 32) hx hb dX1_angleUpper_8 (by decide) ?_
  obtain ⟨v3, ev3, h⟩ := ltl_step h
  refine r_lshr hx hb ev3 dX1_angleUpper_10 ?_
  obtain ⟨v4, ev4, h⟩ := lti_step h
  refine r_l2i hx hb ev4 dX1_angleUpper_11 ?_
  obtain rfl := Option.some.inj h
  rw [eQ]
  exact p_iret hx hb hr hlk dX1_angleUpper_12 rfl

abbrev R_X1_whole : Room := { frames := 5, cells := 7, slots := 56, locals := 119 }
noncomputable def f_X1_whole (x0r0c : Nat → UInt64) (x0r1c : Nat → UInt64) (x0r2c : Nat → Int32) (x0f3 : Int32) (x0f4 : Int32) (x0f5 : Int32) (x0f6 : Int32) (x1 : Int32) : Option (Int32) :=
  Option.bind (f_X1_heightAt x0r0c x0r1c x0r2c x0f3 x0f4 x0f5 x0f6 x1) fun o1 =>
  Option.bind (f_X1_exact o1 70) fun o2 =>
  alt (f_J16_sr_A o2.1 o2.2.1 o2.2.2 70) (fun o9 =>
    Option.bind (f_J16_iv_A o9.1 o9.2.1 o9.2.2) fun o12 =>
    some o12.1
  ) (
  alt (f_J16_sr_B o2.1 o2.2.1 o2.2.2 70) (fun o13 =>
    Option.bind (f_J16_iv_B o13) fun o19 =>
    some o19
  ) (
  Option.bind (f_J16_sr_C o2.1 o2.2.1 o2.2.2 70) fun o20 =>
  Option.bind (f_J16_iv_C o20.1 o20.2.1 o20.2.2) fun o27 =>
  some o27
  ))
theorem hd_X1_whole : Hd yX1_whole 1 := by unfold Hd; decide +kernel
set_option maxHeartbeats 4000000 in
set_option maxRecDepth 100000 in
theorem m_X1_whole {l : Launch} {D : DD} (x0 : Nat) (x0r0 : Nat) (x0r1 : Nat) (x0r2 : Nat)  (x0r0c : Nat → UInt64) (x0r1c : Nat → UInt64) (x0r2c : Nat → Int32) (x0f3 : Int32) (x0f4 : Int32) (x0f5 : Int32) (x0f6 : Int32) (x1 : Int32) (r : Int32) (h : f_X1_whole x0r0c x0r1c x0r2c x0f3 x0f4 x0f5 x0f6 x1 = some r) : MT l D yX1_whole cX1_whole 2 (some .int) 5 119 7 56 [.ref x0, .int x1] (fun H => ON D 0 x0 [.ref x0r0, .ref x0r1, .ref x0r2, .int x0f3, .int x0f4, .int x0f5, .int x0f6] H ∧ aD D x0r0 8 x0r0c H ∧ aD D x0r1 8 x0r1c H ∧ aZ D x0r2 8 x0r2c H) (pI (fun H b H' => b = r ∧ Off (fun _ => False) H H')) := by
  refine MT.start (by decide +kernel) (Nat.le_of_ble_eq_true rfl) ?_
  intro p e s m below meth c ls hC hS hp hl
  obtain ⟨h_x0, h_x0r0, h_x0r1, h_x0r2⟩ := hp
  obtain ⟨hx, hb, hr, hlk, hml, hown, hts, hnm⟩ := id hC
  have hl : lv_has ls 2 [(0, .ref x0), (1, .int x1)] := hl
  unfold f_X1_whole at h
  have hS0 := hS
  obtain ⟨A, eA⟩ : ∃ A : Array Value, A = [.ref x0, .int x1].toArray := ⟨_, rfl⟩
  rw [← eA] at hC hts ⊢
  obtain ⟨Q, eQ⟩ : ∃ Q : State → Prop, Q = MQ below (TQ D (pI (fun H b H' => b = r ∧ Off (fun _ => False) H H'))) A s 7 56 (fun q => dB D ≤ q) := ⟨_, rfl⟩
  have hF : Off (fun _ => False) s.heap s.heap := Off.rf
  show W p l e R_X1_whole s m A below meth c s.heap [] 0 0 _ _
  rw [← eQ]
  obtain ⟨H, eH⟩ : ∃ H : Heap, H = s.heap := ⟨_, rfl⟩
  obtain ⟨locs, eLc⟩ : ∃ L : List Loc, L = [] := ⟨_, rfl⟩
  have lt_h_x0 := h_x0.lt
  have lt_h_x0r0 := h_x0r0.lt
  have lt_h_x0r1 := h_x0r1.lt
  have lt_h_x0r2 := h_x0r2.lt
  rw [← eH, ← eLc]
  have hF : Off (fun _ => False) s.heap H := by rw [eH]; exact hF
  rw [← eH] at h_x0
  rw [← eH] at h_x0r0
  rw [← eH] at h_x0r1
  rw [← eH] at h_x0r2
  have hS : St D s H locs := by rw [eH, eLc]; exact hS
  refine lv_aload_n hx hb dX1_whole_0 rfl (lv_at hl 0 rfl) ?_
  refine lv_iload_n hx hb dX1_whole_1 rfl (lv_at hl 1 rfl) ?_
  obtain ⟨o1, eo1, h⟩ := bind_step h
  refine r_cp (r_runV (rest := []) (As := [.int x1]) hC 1 (m_X1_heightAt x0 x0r0 x0r1 x0r2  x0r0c x0r1c x0r2c x0f3 x0f4 x0f5 x0f6 x1 o1 eo1) q1202 q1204 qs13 q46 q1205 (OA.recv hS h_x0.OA (C := RX1) rfl) hd_X1_heightAt rfl ⟨Nat.le_of_ble_eq_true rfl, Nat.le_of_ble_eq_true rfl⟩ hS ⟨h_x0, h_x0r0, h_x0r1, h_x0r2⟩ hl.1 rfl (Nat.le_of_ble_eq_true rfl) dX1_whole_2 ⟨Nat.le_of_ble_eq_true rfl, Nat.le_of_ble_eq_true rfl⟩) ?_
  refine lv_bipush (v := 70) hx hb dX1_whole_5 (by decide) ?_
  obtain ⟨o2, eo2, h⟩ := bind_step h
  refine r_cr (r_runS (rest := []) (As := [.double o1, .int 70]) hC 2 (m_X1_exact   o1 70 o2 eo2) q412 q413 q46 q414 hd_X1_exact rfl ⟨Nat.le_of_ble_eq_true rfl, Nat.le_of_ble_eq_true rfl⟩ hS trivial hl.1 rfl (Nat.le_of_ble_eq_true rfl) dX1_whole_7 ⟨Nat.le_of_ble_eq_true rfl, Nat.le_of_ble_eq_true rfl⟩) hS (fun ad3 H locs hp hS hz => ?_)
  obtain ⟨ad4, e5, e6, e7, e8, had3, had4, lo2_2_1, hO⟩ := hp
  have h_x0 := h_x0.ext hO
  have h_x0r0 := h_x0r0.ext hO
  have h_x0r1 := h_x0r1.ext hO
  have h_x0r2 := h_x0r2.ext hO
  have hF := hF.trans (hO.mono (fun _ _ z => z.elim))
  refine lv_bipush (v := 70) hx hb dX1_whole_10 (by decide) ?_
  rcases alt_step h with ⟨o9, eo9, h⟩ | h
  · refine r_cr (r_runV (rest := []) (As := [.int 70]) hC 1 (m_J16_sr_A ad3 ad4 e5 e6 e7 e8 o2.1 o2.2.1 o2.2.2 70 o9 eo9) q1206 q1207 q1208 q57 q1209 (OA.recv hS had3 (C := RJ16) rfl) hd_J16_sr_A rfl ⟨Nat.le_of_ble_eq_true rfl, Nat.le_of_ble_eq_true rfl⟩ hS ⟨had3, had4, lo2_2_1⟩ hl.1 rfl (Nat.le_of_ble_eq_true rfl) dX1_whole_12 ⟨Nat.le_of_ble_eq_true rfl, Nat.le_of_ble_eq_true rfl⟩) hS (fun ad10 H locs hp hS hz => ?_)
    obtain ⟨ad11, had10, had11, lo9_2_1, frad10, ne_ad10_ad11, hO⟩ := hp
    have ne_h_x0_had10 : x0 ≠ ad10 := Nat.ne_of_lt (Nat.lt_of_lt_of_le h_x0.lt frad10)
    have ne_h_x0r0_had10 : x0r0 ≠ ad10 := Nat.ne_of_lt (Nat.lt_of_lt_of_le h_x0r0.lt frad10)
    have ne_h_x0r1_had10 : x0r1 ≠ ad10 := Nat.ne_of_lt (Nat.lt_of_lt_of_le h_x0r1.lt frad10)
    have ne_h_x0r2_had10 : x0r2 ≠ ad10 := Nat.ne_of_lt (Nat.lt_of_lt_of_le h_x0r2.lt frad10)
    have ne_had3_had10 : ad3 ≠ ad10 := Nat.ne_of_lt (Nat.lt_of_lt_of_le had3.lt frad10)
    have ne_had4_had10 : ad4 ≠ ad10 := Nat.ne_of_lt (Nat.lt_of_lt_of_le had4.lt frad10)
    have gad10 : s.heap.size ≤ ad10 := Nat.le_trans hF.1 frad10
    have hB_had10 : dB D ≤ ad10 := by have := hS0.1.2.2.1; omega
    have h_x0 := h_x0.ext hO
    have h_x0r0 := h_x0r0.ext hO
    have h_x0r1 := h_x0r1.ext hO
    have h_x0r2 := h_x0r2.ext hO
    have had3 := had3.ext hO
    have had4 := had4.ext hO
    have hF := hF.trans (hO.mono (fun _ _ z => z.elim))
    obtain ⟨o12, eo12, h⟩ := bind_step h
    refine r_ci (r_runV (rest := []) (As := []) hC 0 (m_J16_iv_A ad10 ad11  o9.1 o9.2.1 o9.2.2 o12 eo12) q1210 q1211 q1212 q57 q1213 (OA.recv hS had10.OA (C := RJ16) rfl) hd_J16_iv_A rfl ⟨Nat.le_of_ble_eq_true rfl, Nat.le_of_ble_eq_true rfl⟩ hS ⟨had10, hB_had10, had11, lo9_2_1, ne_ad10_ad11⟩ hl.1 rfl (Nat.le_of_ble_eq_true rfl) dX1_whole_15 ⟨Nat.le_of_ble_eq_true rfl, Nat.le_of_ble_eq_true rfl⟩) hS (fun b H locs hp hS hz => ?_)
    obtain ⟨rfl, had10, hO⟩ := hp
    have h_x0 := h_x0.off hO ne_h_x0_had10
    have h_x0r0 := h_x0r0.off hO ne_h_x0r0_had10
    have h_x0r1 := h_x0r1.off hO ne_h_x0r1_had10
    have h_x0r2 := h_x0r2.off hO ne_h_x0r2_had10
    have had3 := had3.off hO ne_had3_had10
    have had4 := had4.off hO ne_had4_had10
    have had11 := had11.off hO (Ne.symm ne_ad10_ad11)
    have hF := hF.fresh hO (fun a ha z => absurd (z ▸ ha) (Nat.not_lt.mpr gad10))
    obtain rfl := Option.some.inj h
    rw [eQ]
    exact r_iret hx hb hr hlk hS (Nat.le_of_ble_eq_true rfl) (Nat.le_of_ble_eq_true rfl) dX1_whole_18 ⟨_, rfl, rfl, hF⟩
  rcases alt_step h with ⟨o13, eo13, h⟩ | h
  · refine r_cr (r_runV (rest := []) (As := [.int 70]) hC 1 (m_J16_sr_B ad3 ad4 e5 e6 e7 e8 o2.1 o2.2.1 o2.2.2 70 o13 eo13) q1206 q1207 q1208 q57 q1209 (OA.recv hS had3 (C := RJ16) rfl) hd_J16_sr_B rfl ⟨Nat.le_of_ble_eq_true rfl, Nat.le_of_ble_eq_true rfl⟩ hS ⟨had3, had4, lo2_2_1⟩ hl.1 rfl (Nat.le_of_ble_eq_true rfl) dX1_whole_12 ⟨Nat.le_of_ble_eq_true rfl, Nat.le_of_ble_eq_true rfl⟩) hS (fun ad14 H locs hp hS hz => ?_)
    obtain ⟨ad15, e16, e17, e18, had14, had15, hO⟩ := hp
    have h_x0 := h_x0.ext hO
    have h_x0r0 := h_x0r0.ext hO
    have h_x0r1 := h_x0r1.ext hO
    have h_x0r2 := h_x0r2.ext hO
    have had3 := had3.ext hO
    have had4 := had4.ext hO
    have hF := hF.trans (hO.mono (fun _ _ z => z.elim))
    obtain ⟨o19, eo19, h⟩ := bind_step h
    refine r_cp (r_runV (rest := []) (As := []) hC 0 (m_J16_iv_B ad14 ad15 e16 e17 e18 o13 o19 eo19) q1210 q1211 q1212 q57 q1213 (OA.recv hS had14 (C := RJ16) rfl) hd_J16_iv_B rfl ⟨Nat.le_of_ble_eq_true rfl, Nat.le_of_ble_eq_true rfl⟩ hS ⟨had14, had15⟩ hl.1 rfl (Nat.le_of_ble_eq_true rfl) dX1_whole_15 ⟨Nat.le_of_ble_eq_true rfl, Nat.le_of_ble_eq_true rfl⟩) ?_
    obtain rfl := Option.some.inj h
    rw [eQ]
    exact r_iret hx hb hr hlk hS (Nat.le_of_ble_eq_true rfl) (Nat.le_of_ble_eq_true rfl) dX1_whole_18 ⟨_, rfl, rfl, hF⟩
  obtain ⟨o20, eo20, h⟩ := bind_step h
  refine r_cr (r_runV (rest := []) (As := [.int 70]) hC 1 (m_J16_sr_C ad3 ad4 e5 e6 e7 e8 o2.1 o2.2.1 o2.2.2 70 o20 eo20) q1206 q1207 q1208 q57 q1209 (OA.recv hS had3 (C := RJ16) rfl) hd_J16_sr_C rfl ⟨Nat.le_of_ble_eq_true rfl, Nat.le_of_ble_eq_true rfl⟩ hS ⟨had3, had4, lo2_2_1⟩ hl.1 rfl (Nat.le_of_ble_eq_true rfl) dX1_whole_12 ⟨Nat.le_of_ble_eq_true rfl, Nat.le_of_ble_eq_true rfl⟩) hS (fun ad21 H locs hp hS hz => ?_)
  obtain ⟨ad22, e23, e24, e25, e26, had21, had22, lo20_2_1, hO⟩ := hp
  have h_x0 := h_x0.ext hO
  have h_x0r0 := h_x0r0.ext hO
  have h_x0r1 := h_x0r1.ext hO
  have h_x0r2 := h_x0r2.ext hO
  have had3 := had3.ext hO
  have had4 := had4.ext hO
  have hF := hF.trans (hO.mono (fun _ _ z => z.elim))
  obtain ⟨o27, eo27, h⟩ := bind_step h
  refine r_cp (r_runV (rest := []) (As := []) hC 0 (m_J16_iv_C ad21 ad22 e23 e24 e25 e26 o20.1 o20.2.1 o20.2.2 o27 eo27) q1210 q1211 q1212 q57 q1213 (OA.recv hS had21 (C := RJ16) rfl) hd_J16_iv_C rfl ⟨Nat.le_of_ble_eq_true rfl, Nat.le_of_ble_eq_true rfl⟩ hS ⟨had21, had22, lo20_2_1⟩ hl.1 rfl (Nat.le_of_ble_eq_true rfl) dX1_whole_15 ⟨Nat.le_of_ble_eq_true rfl, Nat.le_of_ble_eq_true rfl⟩) ?_
  obtain rfl := Option.some.inj h
  rw [eQ]
  exact r_iret hx hb hr hlk hS (Nat.le_of_ble_eq_true rfl) (Nat.le_of_ble_eq_true rfl) dX1_whole_18 ⟨_, rfl, rfl, hF⟩

abbrev R_X1_steps : Room := { frames := 5, cells := 7, slots := 56, locals := 119 }
noncomputable def f_X1_steps (x0r0c : Nat → UInt64) (x0r1c : Nat → UInt64) (x0r2c : Nat → Int32) (x0f3 : Int32) (x0f4 : Int32) (x0f5 : Int32) (x0f6 : Int32) (x1 : Int32) (x2 : Int32) : Option (Int32) :=
  Option.bind (f_X1_heightAt x0r0c x0r1c x0r2c x0f3 x0f4 x0f5 x0f6 x1) fun o1 =>
  Option.bind (f_X1_isIn x2 0 30) fun o2 =>
  Option.bind (f_X1_mustFit o2) fun o3 =>
  Option.bind (f_X1_exact o1 70) fun o4 =>
  lti (70 - x2) fun v11 =>
  alt (f_J16_sr_A o4.1 o4.2.1 o4.2.2 v11) (fun o12 =>
    Option.bind (f_J16_iv_A o12.1 o12.2.1 o12.2.2) fun o15 =>
    lti (1 <<< (x2 &&& 31)) fun v16 =>
    lti (v16 - 1) fun v17 =>
    lti (o15.1 &&& v17) fun v18 =>
    some v18
  ) (
  alt (f_J16_sr_B o4.1 o4.2.1 o4.2.2 v11) (fun o19 =>
    Option.bind (f_J16_iv_B o19) fun o25 =>
    lti (1 <<< (x2 &&& 31)) fun v26 =>
    lti (v26 - 1) fun v27 =>
    lti (o25 &&& v27) fun v28 =>
    some v28
  ) (
  Option.bind (f_J16_sr_C o4.1 o4.2.1 o4.2.2 v11) fun o29 =>
  Option.bind (f_J16_iv_C o29.1 o29.2.1 o29.2.2) fun o36 =>
  lti (1 <<< (x2 &&& 31)) fun v37 =>
  lti (v37 - 1) fun v38 =>
  lti (o36 &&& v38) fun v39 =>
  some v39
  ))
theorem hd_X1_steps : Hd yX1_steps 2 := by unfold Hd; decide +kernel
set_option maxHeartbeats 4000000 in
set_option maxRecDepth 100000 in
theorem m_X1_steps {l : Launch} {D : DD} (x0 : Nat) (x0r0 : Nat) (x0r1 : Nat) (x0r2 : Nat)  (x0r0c : Nat → UInt64) (x0r1c : Nat → UInt64) (x0r2c : Nat → Int32) (x0f3 : Int32) (x0f4 : Int32) (x0f5 : Int32) (x0f6 : Int32) (x1 : Int32) (x2 : Int32) (r : Int32) (h : f_X1_steps x0r0c x0r1c x0r2c x0f3 x0f4 x0f5 x0f6 x1 x2 = some r) : MT l D yX1_steps cX1_steps 5 (some .int) 5 119 7 56 [.ref x0, .int x1, .int x2] (fun H => ON D 0 x0 [.ref x0r0, .ref x0r1, .ref x0r2, .int x0f3, .int x0f4, .int x0f5, .int x0f6] H ∧ aD D x0r0 8 x0r0c H ∧ aD D x0r1 8 x0r1c H ∧ aZ D x0r2 8 x0r2c H) (pI (fun H b H' => b = r ∧ Off (fun _ => False) H H')) := by
  refine MT.start (by decide +kernel) (Nat.le_of_ble_eq_true rfl) ?_
  intro p e s m below meth c ls hC hS hp hl
  obtain ⟨h_x0, h_x0r0, h_x0r1, h_x0r2⟩ := hp
  obtain ⟨hx, hb, hr, hlk, hml, hown, hts, hnm⟩ := id hC
  have hl : lv_has ls 5 [(0, .ref x0), (1, .int x1), (2, .int x2)] := hl
  unfold f_X1_steps at h
  have hS0 := hS
  obtain ⟨A, eA⟩ : ∃ A : Array Value, A = [.ref x0, .int x1, .int x2].toArray := ⟨_, rfl⟩
  rw [← eA] at hC hts ⊢
  obtain ⟨Q, eQ⟩ : ∃ Q : State → Prop, Q = MQ below (TQ D (pI (fun H b H' => b = r ∧ Off (fun _ => False) H H'))) A s 7 56 (fun q => dB D ≤ q) := ⟨_, rfl⟩
  have hF : Off (fun _ => False) s.heap s.heap := Off.rf
  show W p l e R_X1_steps s m A below meth c s.heap [] 0 0 _ _
  rw [← eQ]
  obtain ⟨H, eH⟩ : ∃ H : Heap, H = s.heap := ⟨_, rfl⟩
  obtain ⟨locs, eLc⟩ : ∃ L : List Loc, L = [] := ⟨_, rfl⟩
  have lt_h_x0 := h_x0.lt
  have lt_h_x0r0 := h_x0r0.lt
  have lt_h_x0r1 := h_x0r1.lt
  have lt_h_x0r2 := h_x0r2.lt
  rw [← eH, ← eLc]
  have hF : Off (fun _ => False) s.heap H := by rw [eH]; exact hF
  rw [← eH] at h_x0
  rw [← eH] at h_x0r0
  rw [← eH] at h_x0r1
  rw [← eH] at h_x0r2
  have hS : St D s H locs := by rw [eH, eLc]; exact hS
  refine lv_aload_n hx hb dX1_steps_0 rfl (lv_at hl 0 rfl) ?_
  refine lv_iload_n hx hb dX1_steps_1 rfl (lv_at hl 1 rfl) ?_
  obtain ⟨o1, eo1, h⟩ := bind_step h
  refine r_cp (r_runV (rest := []) (As := [.int x1]) hC 1 (m_X1_heightAt x0 x0r0 x0r1 x0r2  x0r0c x0r1c x0r2c x0f3 x0f4 x0f5 x0f6 x1 o1 eo1) q1202 q1204 qs13 q46 q1205 (OA.recv hS h_x0.OA (C := RX1) rfl) hd_X1_heightAt rfl ⟨Nat.le_of_ble_eq_true rfl, Nat.le_of_ble_eq_true rfl⟩ hS ⟨h_x0, h_x0r0, h_x0r1, h_x0r2⟩ hl.1 rfl (Nat.le_of_ble_eq_true rfl) dX1_steps_2 ⟨Nat.le_of_ble_eq_true rfl, Nat.le_of_ble_eq_true rfl⟩) ?_
  refine lv_dstore_n (lv' := [(3, .double o1), (0, .ref x0), (1, .int x1), (2, .int x2)]) hx hb dX1_steps_5 rfl hl (by decide) rfl (fun ls hl => ?_)
  refine lv_iload_n hx hb dX1_steps_6 rfl (lv_at hl 3 rfl) ?_
  refine lv_iconst (v := 0) hx hb dX1_steps_7 (by decide) ?_
  refine lv_bipush (v := 30) hx hb dX1_steps_8 (by decide) ?_
  obtain ⟨o2, eo2, h⟩ := bind_step h
  refine r_cp (r_runS (rest := []) (As := [.int x2, .int 0, .int 30]) hC 3 (m_X1_isIn   x2 0 30 o2 eo2) q395 q396 q46 q397 hd_X1_isIn rfl ⟨Nat.le_of_ble_eq_true rfl, Nat.le_of_ble_eq_true rfl⟩ hS trivial hl.1 rfl (Nat.le_of_ble_eq_true rfl) dX1_steps_10 ⟨Nat.le_of_ble_eq_true rfl, Nat.le_of_ble_eq_true rfl⟩) ?_
  obtain ⟨o3, eo3, h⟩ := bind_step h
  refine r_cpv (r_runS (rest := []) (As := [.int (bI o2)]) hC 1 (m_X1_mustFit   o2 o3 eo3) q1230 q1231 q46 q1232 hd_X1_mustFit rfl ⟨Nat.le_of_ble_eq_true rfl, Nat.le_of_ble_eq_true rfl⟩ hS trivial hl.1 rfl (Nat.le_of_ble_eq_true rfl) dX1_steps_13 ⟨Nat.le_of_ble_eq_true rfl, Nat.le_of_ble_eq_true rfl⟩) ?_
  refine lv_dload_n hx hb dX1_steps_16 rfl (lv_at hl 0 rfl) ?_
  refine lv_bipush (v := 70) hx hb dX1_steps_17 (by decide) ?_
  obtain ⟨o4, eo4, h⟩ := bind_step h
  refine r_cr (r_runS (rest := []) (As := [.double o1, .int 70]) hC 2 (m_X1_exact   o1 70 o4 eo4) q412 q413 q46 q414 hd_X1_exact rfl ⟨Nat.le_of_ble_eq_true rfl, Nat.le_of_ble_eq_true rfl⟩ hS trivial hl.1 rfl (Nat.le_of_ble_eq_true rfl) dX1_steps_19 ⟨Nat.le_of_ble_eq_true rfl, Nat.le_of_ble_eq_true rfl⟩) hS (fun ad5 H locs hp hS hz => ?_)
  obtain ⟨ad6, e7, e8, e9, e10, had5, had6, lo4_2_1, hO⟩ := hp
  have h_x0 := h_x0.ext hO
  have h_x0r0 := h_x0r0.ext hO
  have h_x0r1 := h_x0r1.ext hO
  have h_x0r2 := h_x0r2.ext hO
  have hF := hF.trans (hO.mono (fun _ _ z => z.elim))
  refine lv_bipush (v := 70) hx hb dX1_steps_22 (by decide) ?_
  refine lv_iload_n hx hb dX1_steps_24 rfl (lv_at hl 3 rfl) ?_
  obtain ⟨v11, ev11, h⟩ := lti_step h
  refine r_isub hx hb ev11 dX1_steps_25 ?_
  rcases alt_step h with ⟨o12, eo12, h⟩ | h
  · refine r_cr (r_runV (rest := []) (As := [.int v11]) hC 1 (m_J16_sr_A ad5 ad6 e7 e8 e9 e10 o4.1 o4.2.1 o4.2.2 v11 o12 eo12) q1206 q1207 q1208 q57 q1209 (OA.recv hS had5 (C := RJ16) rfl) hd_J16_sr_A rfl ⟨Nat.le_of_ble_eq_true rfl, Nat.le_of_ble_eq_true rfl⟩ hS ⟨had5, had6, lo4_2_1⟩ hl.1 rfl (Nat.le_of_ble_eq_true rfl) dX1_steps_26 ⟨Nat.le_of_ble_eq_true rfl, Nat.le_of_ble_eq_true rfl⟩) hS (fun ad13 H locs hp hS hz => ?_)
    obtain ⟨ad14, had13, had14, lo12_2_1, frad13, ne_ad13_ad14, hO⟩ := hp
    have ne_h_x0_had13 : x0 ≠ ad13 := Nat.ne_of_lt (Nat.lt_of_lt_of_le h_x0.lt frad13)
    have ne_h_x0r0_had13 : x0r0 ≠ ad13 := Nat.ne_of_lt (Nat.lt_of_lt_of_le h_x0r0.lt frad13)
    have ne_h_x0r1_had13 : x0r1 ≠ ad13 := Nat.ne_of_lt (Nat.lt_of_lt_of_le h_x0r1.lt frad13)
    have ne_h_x0r2_had13 : x0r2 ≠ ad13 := Nat.ne_of_lt (Nat.lt_of_lt_of_le h_x0r2.lt frad13)
    have ne_had5_had13 : ad5 ≠ ad13 := Nat.ne_of_lt (Nat.lt_of_lt_of_le had5.lt frad13)
    have ne_had6_had13 : ad6 ≠ ad13 := Nat.ne_of_lt (Nat.lt_of_lt_of_le had6.lt frad13)
    have gad13 : s.heap.size ≤ ad13 := Nat.le_trans hF.1 frad13
    have hB_had13 : dB D ≤ ad13 := by have := hS0.1.2.2.1; omega
    have h_x0 := h_x0.ext hO
    have h_x0r0 := h_x0r0.ext hO
    have h_x0r1 := h_x0r1.ext hO
    have h_x0r2 := h_x0r2.ext hO
    have had5 := had5.ext hO
    have had6 := had6.ext hO
    have hF := hF.trans (hO.mono (fun _ _ z => z.elim))
    obtain ⟨o15, eo15, h⟩ := bind_step h
    refine r_ci (r_runV (rest := []) (As := []) hC 0 (m_J16_iv_A ad13 ad14  o12.1 o12.2.1 o12.2.2 o15 eo15) q1210 q1211 q1212 q57 q1213 (OA.recv hS had13.OA (C := RJ16) rfl) hd_J16_iv_A rfl ⟨Nat.le_of_ble_eq_true rfl, Nat.le_of_ble_eq_true rfl⟩ hS ⟨had13, hB_had13, had14, lo12_2_1, ne_ad13_ad14⟩ hl.1 rfl (Nat.le_of_ble_eq_true rfl) dX1_steps_29 ⟨Nat.le_of_ble_eq_true rfl, Nat.le_of_ble_eq_true rfl⟩) hS (fun b H locs hp hS hz => ?_)
    obtain ⟨rfl, had13, hO⟩ := hp
    have h_x0 := h_x0.off hO ne_h_x0_had13
    have h_x0r0 := h_x0r0.off hO ne_h_x0r0_had13
    have h_x0r1 := h_x0r1.off hO ne_h_x0r1_had13
    have h_x0r2 := h_x0r2.off hO ne_h_x0r2_had13
    have had5 := had5.off hO ne_had5_had13
    have had6 := had6.off hO ne_had6_had13
    have had14 := had14.off hO (Ne.symm ne_ad13_ad14)
    have hF := hF.fresh hO (fun a ha z => absurd (z ▸ ha) (Nat.not_lt.mpr gad13))
    refine lv_iconst (v := 1) hx hb dX1_steps_32 (by decide) ?_
    refine lv_iload_n hx hb dX1_steps_33 rfl (lv_at hl 3 rfl) ?_
    obtain ⟨v16, ev16, h⟩ := lti_step h
    refine r_ishl hx hb ev16 dX1_steps_34 ?_
    refine lv_iconst (v := 1) hx hb dX1_steps_35 (by decide) ?_
    obtain ⟨v17, ev17, h⟩ := lti_step h
    refine r_isub hx hb ev17 dX1_steps_36 ?_
    obtain ⟨v18, ev18, h⟩ := lti_step h
    refine r_iand hx hb ev18 dX1_steps_37 ?_
    obtain rfl := Option.some.inj h
    rw [eQ]
    exact r_iret hx hb hr hlk hS (Nat.le_of_ble_eq_true rfl) (Nat.le_of_ble_eq_true rfl) dX1_steps_38 ⟨_, rfl, rfl, hF⟩
  rcases alt_step h with ⟨o19, eo19, h⟩ | h
  · refine r_cr (r_runV (rest := []) (As := [.int v11]) hC 1 (m_J16_sr_B ad5 ad6 e7 e8 e9 e10 o4.1 o4.2.1 o4.2.2 v11 o19 eo19) q1206 q1207 q1208 q57 q1209 (OA.recv hS had5 (C := RJ16) rfl) hd_J16_sr_B rfl ⟨Nat.le_of_ble_eq_true rfl, Nat.le_of_ble_eq_true rfl⟩ hS ⟨had5, had6, lo4_2_1⟩ hl.1 rfl (Nat.le_of_ble_eq_true rfl) dX1_steps_26 ⟨Nat.le_of_ble_eq_true rfl, Nat.le_of_ble_eq_true rfl⟩) hS (fun ad20 H locs hp hS hz => ?_)
    obtain ⟨ad21, e22, e23, e24, had20, had21, hO⟩ := hp
    have h_x0 := h_x0.ext hO
    have h_x0r0 := h_x0r0.ext hO
    have h_x0r1 := h_x0r1.ext hO
    have h_x0r2 := h_x0r2.ext hO
    have had5 := had5.ext hO
    have had6 := had6.ext hO
    have hF := hF.trans (hO.mono (fun _ _ z => z.elim))
    obtain ⟨o25, eo25, h⟩ := bind_step h
    refine r_cp (r_runV (rest := []) (As := []) hC 0 (m_J16_iv_B ad20 ad21 e22 e23 e24 o19 o25 eo25) q1210 q1211 q1212 q57 q1213 (OA.recv hS had20 (C := RJ16) rfl) hd_J16_iv_B rfl ⟨Nat.le_of_ble_eq_true rfl, Nat.le_of_ble_eq_true rfl⟩ hS ⟨had20, had21⟩ hl.1 rfl (Nat.le_of_ble_eq_true rfl) dX1_steps_29 ⟨Nat.le_of_ble_eq_true rfl, Nat.le_of_ble_eq_true rfl⟩) ?_
    refine lv_iconst (v := 1) hx hb dX1_steps_32 (by decide) ?_
    refine lv_iload_n hx hb dX1_steps_33 rfl (lv_at hl 3 rfl) ?_
    obtain ⟨v26, ev26, h⟩ := lti_step h
    refine r_ishl hx hb ev26 dX1_steps_34 ?_
    refine lv_iconst (v := 1) hx hb dX1_steps_35 (by decide) ?_
    obtain ⟨v27, ev27, h⟩ := lti_step h
    refine r_isub hx hb ev27 dX1_steps_36 ?_
    obtain ⟨v28, ev28, h⟩ := lti_step h
    refine r_iand hx hb ev28 dX1_steps_37 ?_
    obtain rfl := Option.some.inj h
    rw [eQ]
    exact r_iret hx hb hr hlk hS (Nat.le_of_ble_eq_true rfl) (Nat.le_of_ble_eq_true rfl) dX1_steps_38 ⟨_, rfl, rfl, hF⟩
  obtain ⟨o29, eo29, h⟩ := bind_step h
  refine r_cr (r_runV (rest := []) (As := [.int v11]) hC 1 (m_J16_sr_C ad5 ad6 e7 e8 e9 e10 o4.1 o4.2.1 o4.2.2 v11 o29 eo29) q1206 q1207 q1208 q57 q1209 (OA.recv hS had5 (C := RJ16) rfl) hd_J16_sr_C rfl ⟨Nat.le_of_ble_eq_true rfl, Nat.le_of_ble_eq_true rfl⟩ hS ⟨had5, had6, lo4_2_1⟩ hl.1 rfl (Nat.le_of_ble_eq_true rfl) dX1_steps_26 ⟨Nat.le_of_ble_eq_true rfl, Nat.le_of_ble_eq_true rfl⟩) hS (fun ad30 H locs hp hS hz => ?_)
  obtain ⟨ad31, e32, e33, e34, e35, had30, had31, lo29_2_1, hO⟩ := hp
  have h_x0 := h_x0.ext hO
  have h_x0r0 := h_x0r0.ext hO
  have h_x0r1 := h_x0r1.ext hO
  have h_x0r2 := h_x0r2.ext hO
  have had5 := had5.ext hO
  have had6 := had6.ext hO
  have hF := hF.trans (hO.mono (fun _ _ z => z.elim))
  obtain ⟨o36, eo36, h⟩ := bind_step h
  refine r_cp (r_runV (rest := []) (As := []) hC 0 (m_J16_iv_C ad30 ad31 e32 e33 e34 e35 o29.1 o29.2.1 o29.2.2 o36 eo36) q1210 q1211 q1212 q57 q1213 (OA.recv hS had30 (C := RJ16) rfl) hd_J16_iv_C rfl ⟨Nat.le_of_ble_eq_true rfl, Nat.le_of_ble_eq_true rfl⟩ hS ⟨had30, had31, lo29_2_1⟩ hl.1 rfl (Nat.le_of_ble_eq_true rfl) dX1_steps_29 ⟨Nat.le_of_ble_eq_true rfl, Nat.le_of_ble_eq_true rfl⟩) ?_
  refine lv_iconst (v := 1) hx hb dX1_steps_32 (by decide) ?_
  refine lv_iload_n hx hb dX1_steps_33 rfl (lv_at hl 3 rfl) ?_
  obtain ⟨v37, ev37, h⟩ := lti_step h
  refine r_ishl hx hb ev37 dX1_steps_34 ?_
  refine lv_iconst (v := 1) hx hb dX1_steps_35 (by decide) ?_
  obtain ⟨v38, ev38, h⟩ := lti_step h
  refine r_isub hx hb ev38 dX1_steps_36 ?_
  obtain ⟨v39, ev39, h⟩ := lti_step h
  refine r_iand hx hb ev39 dX1_steps_37 ?_
  obtain rfl := Option.some.inj h
  rw [eQ]
  exact r_iret hx hb hr hlk hS (Nat.le_of_ble_eq_true rfl) (Nat.le_of_ble_eq_true rfl) dX1_steps_38 ⟨_, rfl, rfl, hF⟩

abbrev R_X1_find : Room := { frames := 4, cells := 0, slots := 0, locals := 88 }
noncomputable def f_X1_find (x0c : Nat → UInt64) (x1 : UInt64) (x2 : Bool) : Option (Int32) :=
  (if x2 = true then
    lt (fun (v22 : Int32) =>
    (show Option (Sum (Int32) (Int32)) from (
    gd 8 v22 fun i34 =>
    ltd (x0c i34) fun v35 =>
    Option.bind (f_X1_isSame x1 v35) fun o36 =>
    (if o36 = true then
      some (.inr v22)
    else
      lt (fun (v38 : Int32) =>
      lti (v22 + v38) fun v40 =>
      some (.inl v40)
      ) fun K39 =>
      (if x2 = true then
        K39 (-1)
      else
        K39 1
      )
    )
    ))
    ) fun F31 =>
    Option.bind (lp 9 (fun x => F31 x) 7) fun w32 =>
    some w32
  else
    lt (fun (v2 : Int32) =>
    (show Option (Sum (Int32) (Int32)) from (
    gd 8 v2 fun i14 =>
    ltd (x0c i14) fun v15 =>
    Option.bind (f_X1_isSame x1 v15) fun o16 =>
    (if o16 = true then
      some (.inr v2)
    else
      lt (fun (v18 : Int32) =>
      lti (v2 + v18) fun v20 =>
      some (.inl v20)
      ) fun K19 =>
      (if x2 = true then
        K19 (-1)
      else
        K19 1
      )
    )
    ))
    ) fun F11 =>
    Option.bind (lp 9 (fun x => F11 x) 0) fun w12 =>
    some w12
  )
theorem hd_X1_find : Hd yX1_find 3 := by unfold Hd; decide +kernel
set_option maxHeartbeats 4000000 in
set_option maxRecDepth 100000 in
theorem m_X1_find {l : Launch} {D : DD} (x0 : Nat)  (x0c : Nat → UInt64) (x1 : UInt64) (x2 : Bool) (r : Int32) (h : f_X1_find x0c x1 x2 = some r) : MP l D yX1_find cX1_find 5 (some .int) 4 88 [.ref x0, .double x1, .int (bI x2)] (fun H => aD D x0 8 x0c H) (some (.int r)) := by
  refine MP.start (by decide +kernel) (Nat.le_of_ble_eq_true rfl) ?_
  intro p e s m below meth c ls hC hS hp hl
  have h_x0 := hp
  obtain ⟨hx, hb, hr, hlk, hml, hown, hts, hnm⟩ := id hC
  have hl : lv_has ls 5 [(0, .ref x0), (1, .double x1), (3, .int (bI x2))] := hl
  unfold f_X1_find at h
  have hS0 := hS
  obtain ⟨A, eA⟩ : ∃ A : Array Value, A = [.ref x0, .double x1, .int (bI x2)].toArray := ⟨_, rfl⟩
  rw [← eA] at hC hts ⊢
  obtain ⟨Q, eQ⟩ : ∃ Q : State → Prop, Q = MQ below (PQ (some (.int r))) A s 0 0 (fun _ => False) := ⟨_, rfl⟩
  show W p l e R_X1_find s m A below meth c s.heap [] 0 0 _ _
  rw [← eQ]
  refine lv_iload_n hx hb dX1_find_0 rfl (lv_at hl 2 rfl) ?_
  refine r_ifz_eq (tgt := 9) hx hb dX1_find_1 (by decide) (fun c1 => ?_) (fun c1 => ?_)
  · have h := it_neg h (by rw [c1]; decide)
    refine lv_iconst (v := 0) hx hb dX1_find_9 (by decide) ?_
    refine lv_istore (lv' := [(4, .int 0), (0, .ref x0), (1, .double x1), (3, .int (bI x2))]) hx hb dX1_find_10 hl (by decide) rfl (fun ls hl => ?_)
    obtain ⟨F11, eF11, h⟩ := lt_step h
    obtain ⟨w12, ew12, h⟩ := bind_step h
    have HL : ∀ (n : Nat) (v2 : Int32) (w12 : Int32) (hk0 : lp n (fun x => F11 x) v2 = some w12)   (ls : Array Slot) (hl : lv_has ls 5 [(0, .ref x0), (1, .double x1), (3, .int (bI x2)), (4, .int v2)]) (K40 : ∀  (ls : Array Slot) (hl : lv_has ls 5 [(4, .int w12)]), W p l e R_X1_find s m A below meth c s.heap [] 0 0 Q (F0 m 40 ls [])), W p l e R_X1_find s m A below meth c s.heap [] 0 0 Q (F0 m 12 ls []) := by
      intro n
      induction n with
      | zero => intro v2 w12 hk0   ls hl K40; exact lp_zero hk0
      | succ n ih =>
        intro v2 w12 hk0   ls hl K40
        obtain ⟨z13, hz, hk⟩ := lp_step hk0
        have h := (congrFun (eF11) v2).symm.trans hz
        refine lv_dload_n hx hb dX1_find_12 rfl (lv_at hl 1 rfl) ?_
        refine lv_aload_n hx hb dX1_find_13 rfl (lv_at hl 0 rfl) ?_
        refine lv_iload hx hb dX1_find_14 (lv_at hl 3 rfl) ?_
        obtain ⟨i14, xi14, h⟩ := gd_step (by decide) h
        refine r_dald hx hb hS h_x0 i14 xi14 dX1_find_16 ?_
        obtain ⟨v15, ev15, h⟩ := ltd_step h
        refine r_nmD ev15 ?_
        obtain ⟨o16, eo16, h⟩ := bind_step h
        refine r_cp (r_runS (rest := []) (As := [.double x1, .double v15]) hC 2 (m_X1_isSame   x1 v15 o16 eo16) q1273 q1274 q46 q1275 hd_X1_isSame rfl ⟨Nat.le_of_ble_eq_true rfl, Nat.le_of_ble_eq_true rfl⟩ hS trivial hl.1 rfl (Nat.le_of_ble_eq_true rfl) dX1_find_17 ⟨Nat.le_of_ble_eq_true rfl, Nat.le_of_ble_eq_true rfl⟩) ?_
        refine r_ifz_ne (tgt := 40) hx hb dX1_find_20 (by decide) (fun c17 => ?_) (fun c17 => ?_)
        · have h := it_pos h (by rw [c17])
          obtain rfl := Option.some.inj h
          obtain rfl := id hk
          exact K40  ls (lv_sub hl [3] rfl)
        · have h := it_neg h (by rw [c17]; decide)
          refine lv_iload hx hb dX1_find_23 (lv_at hl 3 rfl) ?_
          refine lv_iload_n hx hb dX1_find_25 rfl (lv_at hl 2 rfl) ?_
          obtain ⟨K19, eK19, h⟩ := lt_step h
          have HK19 : ∀ (v18 : Int32) (h : K19 v18 = some z13)  (ls : Array Slot) (hl : lv_has ls 5 [(0, .ref x0), (1, .double x1), (3, .int (bI x2))]), W p l e R_X1_find s m A below meth c s.heap [] 0 0 Q (F0 m 34 ls [.int v18, .int v2]) := by
            intro v18 h  ls hl
            subst eK19
            obtain ⟨v20, ev20, h⟩ := lti_step h
            refine r_iadd hx hb ev20 dX1_find_34 ?_
            refine lv_istore (lv' := [(4, .int v20), (0, .ref x0), (1, .double x1), (3, .int (bI x2))]) hx hb dX1_find_35 hl (by decide) rfl (fun ls hl => ?_)
            refine lv_goto (tgt := 12) hx hb dX1_find_37 (by decide) ?_
            obtain rfl := Option.some.inj h
            exact ih v20 w12 hk   ls (lv_sub hl [1, 2, 3, 0] rfl) K40
          clear eK19
          refine r_ifz_eq (tgt := 33) hx hb dX1_find_26 (by decide) (fun c21 => ?_) (fun c21 => ?_)
          · have h := it_neg h (by rw [c21]; decide)
            refine lv_iconst (v := 1) hx hb dX1_find_33 (by decide) ?_
            exact HK19 1 h  ls (lv_sub hl [0, 1, 2] rfl)
          · have h := it_pos h (by rw [c21])
            refine lv_iconst (v := (-1)) hx hb dX1_find_29 (by decide) ?_
            refine lv_goto (tgt := 34) hx hb dX1_find_30 (by decide) ?_
            exact HK19 (-1) h  ls (lv_sub hl [0, 1, 2] rfl)
    clear eF11
    refine HL 9 0 w12 ew12   ls (lv_sub hl [1, 2, 3, 0] rfl) (fun   ls hl => ?_)
    refine lv_iload hx hb dX1_find_40 (lv_at hl 0 rfl) ?_
    obtain rfl := Option.some.inj h
    rw [eQ]
    exact p_iret hx hb hr hlk dX1_find_42 rfl
  · have h := it_pos h (by rw [c1])
    refine lv_bipush (v := 7) hx hb dX1_find_4 (by decide) ?_
    refine lv_goto (tgt := 10) hx hb dX1_find_6 (by decide) ?_
    refine lv_istore (lv' := [(4, .int 7), (0, .ref x0), (1, .double x1), (3, .int (bI x2))]) hx hb dX1_find_10 hl (by decide) rfl (fun ls hl => ?_)
    obtain ⟨F31, eF31, h⟩ := lt_step h
    obtain ⟨w32, ew32, h⟩ := bind_step h
    have HL : ∀ (n : Nat) (v22 : Int32) (w32 : Int32) (hk0 : lp n (fun x => F31 x) v22 = some w32)   (ls : Array Slot) (hl : lv_has ls 5 [(0, .ref x0), (1, .double x1), (3, .int (bI x2)), (4, .int v22)]) (K40 : ∀  (ls : Array Slot) (hl : lv_has ls 5 [(4, .int w32)]), W p l e R_X1_find s m A below meth c s.heap [] 0 0 Q (F0 m 40 ls [])), W p l e R_X1_find s m A below meth c s.heap [] 0 0 Q (F0 m 12 ls []) := by
      intro n
      induction n with
      | zero => intro v22 w32 hk0   ls hl K40; exact lp_zero hk0
      | succ n ih =>
        intro v22 w32 hk0   ls hl K40
        obtain ⟨z33, hz, hk⟩ := lp_step hk0
        have h := (congrFun (eF31) v22).symm.trans hz
        refine lv_dload_n hx hb dX1_find_12 rfl (lv_at hl 1 rfl) ?_
        refine lv_aload_n hx hb dX1_find_13 rfl (lv_at hl 0 rfl) ?_
        refine lv_iload hx hb dX1_find_14 (lv_at hl 3 rfl) ?_
        obtain ⟨i34, xi34, h⟩ := gd_step (by decide) h
        refine r_dald hx hb hS h_x0 i34 xi34 dX1_find_16 ?_
        obtain ⟨v35, ev35, h⟩ := ltd_step h
        refine r_nmD ev35 ?_
        obtain ⟨o36, eo36, h⟩ := bind_step h
        refine r_cp (r_runS (rest := []) (As := [.double x1, .double v35]) hC 2 (m_X1_isSame   x1 v35 o36 eo36) q1273 q1274 q46 q1275 hd_X1_isSame rfl ⟨Nat.le_of_ble_eq_true rfl, Nat.le_of_ble_eq_true rfl⟩ hS trivial hl.1 rfl (Nat.le_of_ble_eq_true rfl) dX1_find_17 ⟨Nat.le_of_ble_eq_true rfl, Nat.le_of_ble_eq_true rfl⟩) ?_
        refine r_ifz_ne (tgt := 40) hx hb dX1_find_20 (by decide) (fun c37 => ?_) (fun c37 => ?_)
        · have h := it_pos h (by rw [c37])
          obtain rfl := Option.some.inj h
          obtain rfl := id hk
          exact K40  ls (lv_sub hl [3] rfl)
        · have h := it_neg h (by rw [c37]; decide)
          refine lv_iload hx hb dX1_find_23 (lv_at hl 3 rfl) ?_
          refine lv_iload_n hx hb dX1_find_25 rfl (lv_at hl 2 rfl) ?_
          obtain ⟨K39, eK39, h⟩ := lt_step h
          have HK39 : ∀ (v38 : Int32) (h : K39 v38 = some z33)  (ls : Array Slot) (hl : lv_has ls 5 [(0, .ref x0), (1, .double x1), (3, .int (bI x2))]), W p l e R_X1_find s m A below meth c s.heap [] 0 0 Q (F0 m 34 ls [.int v38, .int v22]) := by
            intro v38 h  ls hl
            subst eK39
            obtain ⟨v40, ev40, h⟩ := lti_step h
            refine r_iadd hx hb ev40 dX1_find_34 ?_
            refine lv_istore (lv' := [(4, .int v40), (0, .ref x0), (1, .double x1), (3, .int (bI x2))]) hx hb dX1_find_35 hl (by decide) rfl (fun ls hl => ?_)
            refine lv_goto (tgt := 12) hx hb dX1_find_37 (by decide) ?_
            obtain rfl := Option.some.inj h
            exact ih v40 w32 hk   ls (lv_sub hl [1, 2, 3, 0] rfl) K40
          clear eK39
          refine r_ifz_eq (tgt := 33) hx hb dX1_find_26 (by decide) (fun c41 => ?_) (fun c41 => ?_)
          · have h := it_neg h (by rw [c41]; decide)
            refine lv_iconst (v := 1) hx hb dX1_find_33 (by decide) ?_
            exact HK39 1 h  ls (lv_sub hl [0, 1, 2] rfl)
          · have h := it_pos h (by rw [c41])
            refine lv_iconst (v := (-1)) hx hb dX1_find_29 (by decide) ?_
            refine lv_goto (tgt := 34) hx hb dX1_find_30 (by decide) ?_
            exact HK39 (-1) h  ls (lv_sub hl [0, 1, 2] rfl)
    clear eF31
    refine HL 9 7 w32 ew32   ls (lv_sub hl [1, 2, 3, 0] rfl) (fun   ls hl => ?_)
    refine lv_iload hx hb dX1_find_40 (lv_at hl 0 rfl) ?_
    obtain rfl := Option.some.inj h
    rw [eQ]
    exact p_iret hx hb hr hlk dX1_find_42 rfl

abbrev R_X1_quarter : Room := { frames := 9, cells := 12, slots := 170, locals := 1411 }
noncomputable def f_X1_quarter (x0r0c : Nat → UInt64) (x0r1c : Nat → UInt64) (x0r2c : Nat → Int32) (x0f3 : Int32) (x0f4 : Int32) (x0f5 : Int32) (x0f6 : Int32) (x1 : Int32) : Option (Int32) :=
  Option.bind (f_X1_angleAt x0r0c x0r1c x0r2c x0f3 x0f4 x0f5 x0f6 x1) fun o1 =>
  Option.bind (f_J6_sin o1) fun o2 =>
  Option.bind (f_X1_signOf o2) fun o3 =>
  lti (2 * o3) fun v4 =>
  Option.bind (f_J6_cos o1) fun o5 =>
  Option.bind (f_X1_signOf o5) fun o6 =>
  lti (v4 + o6) fun v7 =>
  some v7
theorem hd_X1_quarter : Hd yX1_quarter 1 := by unfold Hd; decide +kernel
set_option maxHeartbeats 4000000 in
set_option maxRecDepth 100000 in
theorem m_X1_quarter {l : Launch} {D : DD} (x0 : Nat) (x0r0 : Nat) (x0r1 : Nat) (x0r2 : Nat)  (x0r0c : Nat → UInt64) (x0r1c : Nat → UInt64) (x0r2c : Nat → Int32) (x0f3 : Int32) (x0f4 : Int32) (x0f5 : Int32) (x0f6 : Int32) (x1 : Int32) (r : Int32) (h : f_X1_quarter x0r0c x0r1c x0r2c x0f3 x0f4 x0f5 x0f6 x1 = some r) : MT l D yX1_quarter cX1_quarter 4 (some .int) 9 1411 12 170 [.ref x0, .int x1] (fun H => ON D 0 x0 [.ref x0r0, .ref x0r1, .ref x0r2, .int x0f3, .int x0f4, .int x0f5, .int x0f6] H ∧ aD D x0r0 8 x0r0c H ∧ aD D x0r1 8 x0r1c H ∧ aZ D x0r2 8 x0r2c H) (pI (fun H b H' => b = r ∧ Off (fun _ => False) H H')) := by
  refine MT.start (by decide +kernel) (Nat.le_of_ble_eq_true rfl) ?_
  intro p e s m below meth c ls hC hS hp hl
  obtain ⟨h_x0, h_x0r0, h_x0r1, h_x0r2⟩ := hp
  obtain ⟨hx, hb, hr, hlk, hml, hown, hts, hnm⟩ := id hC
  have hl : lv_has ls 4 [(0, .ref x0), (1, .int x1)] := hl
  unfold f_X1_quarter at h
  have hS0 := hS
  obtain ⟨A, eA⟩ : ∃ A : Array Value, A = [.ref x0, .int x1].toArray := ⟨_, rfl⟩
  rw [← eA] at hC hts ⊢
  obtain ⟨Q, eQ⟩ : ∃ Q : State → Prop, Q = MQ below (TQ D (pI (fun H b H' => b = r ∧ Off (fun _ => False) H H'))) A s 12 170 (fun q => dB D ≤ q) := ⟨_, rfl⟩
  have hF : Off (fun _ => False) s.heap s.heap := Off.rf
  show W p l e R_X1_quarter s m A below meth c s.heap [] 0 0 _ _
  rw [← eQ]
  obtain ⟨H, eH⟩ : ∃ H : Heap, H = s.heap := ⟨_, rfl⟩
  obtain ⟨locs, eLc⟩ : ∃ L : List Loc, L = [] := ⟨_, rfl⟩
  have lt_h_x0 := h_x0.lt
  have lt_h_x0r0 := h_x0r0.lt
  have lt_h_x0r1 := h_x0r1.lt
  have lt_h_x0r2 := h_x0r2.lt
  rw [← eH, ← eLc]
  have hF : Off (fun _ => False) s.heap H := by rw [eH]; exact hF
  rw [← eH] at h_x0
  rw [← eH] at h_x0r0
  rw [← eH] at h_x0r1
  rw [← eH] at h_x0r2
  have hS : St D s H locs := by rw [eH, eLc]; exact hS
  refine lv_aload_n hx hb dX1_quarter_0 rfl (lv_at hl 0 rfl) ?_
  refine lv_iload_n hx hb dX1_quarter_1 rfl (lv_at hl 1 rfl) ?_
  obtain ⟨o1, eo1, h⟩ := bind_step h
  refine r_cp (r_runV (rest := []) (As := [.int x1]) hC 1 (m_X1_angleAt x0 x0r0 x0r1 x0r2  x0r0c x0r1c x0r2c x0f3 x0f4 x0f5 x0f6 x1 o1 eo1) q952 q954 qs11 q46 q955 (OA.recv hS h_x0.OA (C := RX1) rfl) hd_X1_angleAt rfl ⟨Nat.le_of_ble_eq_true rfl, Nat.le_of_ble_eq_true rfl⟩ hS ⟨h_x0, h_x0r0, h_x0r1, h_x0r2⟩ hl.1 rfl (Nat.le_of_ble_eq_true rfl) dX1_quarter_2 ⟨Nat.le_of_ble_eq_true rfl, Nat.le_of_ble_eq_true rfl⟩) ?_
  refine lv_dstore_n (lv' := [(2, .double o1), (0, .ref x0), (1, .int x1)]) hx hb dX1_quarter_5 rfl hl (by decide) rfl (fun ls hl => ?_)
  refine lv_iconst (v := 2) hx hb dX1_quarter_6 (by decide) ?_
  refine lv_dload_n hx hb dX1_quarter_7 rfl (lv_at hl 0 rfl) ?_
  obtain ⟨o2, eo2, h⟩ := bind_step h
  refine r_cd (r_runS (rest := [.int 2]) (As := [.double o1]) hC 1 (m_J6_sin o1  o2 eo2) q173 q174 q47 q175 hd_J6_sin rfl ⟨Nat.le_of_ble_eq_true rfl, Nat.le_of_ble_eq_true rfl⟩ hS trivial hl.1 rfl (Nat.le_of_ble_eq_true rfl) dX1_quarter_8 ⟨Nat.le_of_ble_eq_true rfl, Nat.le_of_ble_eq_true rfl⟩) hS (fun b H locs hp hS hz => ?_)
  obtain ⟨eb_, hO⟩ := hp
  rw [eb_]
  have h_x0 := h_x0.ext hO
  have h_x0r0 := h_x0r0.ext hO
  have h_x0r1 := h_x0r1.ext hO
  have h_x0r2 := h_x0r2.ext hO
  have hF := hF.trans (hO.mono (fun _ _ z => z.elim))
  obtain ⟨o3, eo3, h⟩ := bind_step h
  refine r_cp (r_runS (rest := [.int 2]) (As := [.double o2]) hC 1 (m_X1_signOf   o2 o3 eo3) q386 q387 q46 q388 hd_X1_signOf rfl ⟨Nat.le_of_ble_eq_true rfl, Nat.le_of_ble_eq_true rfl⟩ hS trivial hl.1 rfl (Nat.le_of_ble_eq_true rfl) dX1_quarter_11 ⟨Nat.le_of_ble_eq_true rfl, Nat.le_of_ble_eq_true rfl⟩) ?_
  obtain ⟨v4, ev4, h⟩ := lti_step h
  refine r_imul hx hb ev4 dX1_quarter_14 ?_
  refine lv_dload_n hx hb dX1_quarter_15 rfl (lv_at hl 0 rfl) ?_
  obtain ⟨o5, eo5, h⟩ := bind_step h
  refine r_cd (r_runS (rest := [.int v4]) (As := [.double o1]) hC 1 (m_J6_cos o1  o5 eo5) q318 q319 q47 q320 hd_J6_cos rfl ⟨Nat.le_of_ble_eq_true rfl, Nat.le_of_ble_eq_true rfl⟩ hS trivial hl.1 rfl (Nat.le_of_ble_eq_true rfl) dX1_quarter_16 ⟨Nat.le_of_ble_eq_true rfl, Nat.le_of_ble_eq_true rfl⟩) hS (fun b H locs hp hS hz => ?_)
  obtain ⟨eb_, hO⟩ := hp
  rw [eb_]
  have h_x0 := h_x0.ext hO
  have h_x0r0 := h_x0r0.ext hO
  have h_x0r1 := h_x0r1.ext hO
  have h_x0r2 := h_x0r2.ext hO
  have hF := hF.trans (hO.mono (fun _ _ z => z.elim))
  obtain ⟨o6, eo6, h⟩ := bind_step h
  refine r_cp (r_runS (rest := [.int v4]) (As := [.double o5]) hC 1 (m_X1_signOf   o5 o6 eo6) q386 q387 q46 q388 hd_X1_signOf rfl ⟨Nat.le_of_ble_eq_true rfl, Nat.le_of_ble_eq_true rfl⟩ hS trivial hl.1 rfl (Nat.le_of_ble_eq_true rfl) dX1_quarter_19 ⟨Nat.le_of_ble_eq_true rfl, Nat.le_of_ble_eq_true rfl⟩) ?_
  obtain ⟨v7, ev7, h⟩ := lti_step h
  refine r_iadd hx hb ev7 dX1_quarter_22 ?_
  obtain rfl := Option.some.inj h
  rw [eQ]
  exact r_iret hx hb hr hlk hS (Nat.le_of_ble_eq_true rfl) (Nat.le_of_ble_eq_true rfl) dX1_quarter_23 ⟨_, rfl, rfl, hF⟩

abbrev R_X1_heightFind : Room := { frames := 5, cells := 0, slots := 0, locals := 112 }
noncomputable def f_X1_heightFind (x0r0c : Nat → UInt64) (x0r1c : Nat → UInt64) (x0r2c : Nat → Int32) (x0f3 : Int32) (x0f4 : Int32) (x0f5 : Int32) (x0f6 : Int32) (x1 : Int32) (x2 : Bool) : Option (Int32) :=
  Option.bind (f_X1_heightAt x0r0c x0r1c x0r2c x0f3 x0f4 x0f5 x0f6 x1) fun o1 =>
  Option.bind (f_X1_find x0r1c o1 x2) fun o2 =>
  some o2
theorem hd_X1_heightFind : Hd yX1_heightFind 2 := by unfold Hd; decide +kernel
set_option maxHeartbeats 4000000 in
set_option maxRecDepth 100000 in
theorem m_X1_heightFind {l : Launch} {D : DD} (x0 : Nat) (x0r0 : Nat) (x0r1 : Nat) (x0r2 : Nat)  (x0r0c : Nat → UInt64) (x0r1c : Nat → UInt64) (x0r2c : Nat → Int32) (x0f3 : Int32) (x0f4 : Int32) (x0f5 : Int32) (x0f6 : Int32) (x1 : Int32) (x2 : Bool) (r : Int32) (h : f_X1_heightFind x0r0c x0r1c x0r2c x0f3 x0f4 x0f5 x0f6 x1 x2 = some r) : MP l D yX1_heightFind cX1_heightFind 3 (some .int) 5 112 [.ref x0, .int x1, .int (bI x2)] (fun H => ON D 0 x0 [.ref x0r0, .ref x0r1, .ref x0r2, .int x0f3, .int x0f4, .int x0f5, .int x0f6] H ∧ aD D x0r0 8 x0r0c H ∧ aD D x0r1 8 x0r1c H ∧ aZ D x0r2 8 x0r2c H) (some (.int r)) := by
  refine MP.start (by decide +kernel) (Nat.le_of_ble_eq_true rfl) ?_
  intro p e s m below meth c ls hC hS hp hl
  obtain ⟨h_x0, h_x0r0, h_x0r1, h_x0r2⟩ := hp
  obtain ⟨hx, hb, hr, hlk, hml, hown, hts, hnm⟩ := id hC
  have hl : lv_has ls 3 [(0, .ref x0), (1, .int x1), (2, .int (bI x2))] := hl
  unfold f_X1_heightFind at h
  have hS0 := hS
  obtain ⟨A, eA⟩ : ∃ A : Array Value, A = [.ref x0, .int x1, .int (bI x2)].toArray := ⟨_, rfl⟩
  rw [← eA] at hC hts ⊢
  obtain ⟨Q, eQ⟩ : ∃ Q : State → Prop, Q = MQ below (PQ (some (.int r))) A s 0 0 (fun _ => False) := ⟨_, rfl⟩
  show W p l e R_X1_heightFind s m A below meth c s.heap [] 0 0 _ _
  rw [← eQ]
  refine lv_aload_n hx hb dX1_heightFind_0 rfl (lv_at hl 0 rfl) ?_
  refine r_get hx hb hts hown hS h_x0.OA rfl in_X1 1 (by decide) q915 rfl (v := .ref x0r1) rfl dX1_heightFind_1 ?_
  refine lv_aload_n hx hb dX1_heightFind_4 rfl (lv_at hl 0 rfl) ?_
  refine lv_iload_n hx hb dX1_heightFind_5 rfl (lv_at hl 1 rfl) ?_
  obtain ⟨o1, eo1, h⟩ := bind_step h
  refine r_cp (r_runV (rest := [.ref x0r1]) (As := [.int x1]) hC 1 (m_X1_heightAt x0 x0r0 x0r1 x0r2  x0r0c x0r1c x0r2c x0f3 x0f4 x0f5 x0f6 x1 o1 eo1) q1202 q1204 qs13 q46 q1205 (OA.recv hS h_x0.OA (C := RX1) rfl) hd_X1_heightAt rfl ⟨Nat.le_of_ble_eq_true rfl, Nat.le_of_ble_eq_true rfl⟩ hS ⟨h_x0, h_x0r0, h_x0r1, h_x0r2⟩ hl.1 rfl (Nat.le_of_ble_eq_true rfl) dX1_heightFind_6 ⟨Nat.le_of_ble_eq_true rfl, Nat.le_of_ble_eq_true rfl⟩) ?_
  refine lv_iload_n hx hb dX1_heightFind_9 rfl (lv_at hl 2 rfl) ?_
  obtain ⟨o2, eo2, h⟩ := bind_step h
  refine r_cp (r_runS (rest := []) (As := [.ref x0r1, .double o1, .int (bI x2)]) hC 3 (m_X1_find x0r1  x0r1c o1 x2 o2 eo2) q1270 q1271 q46 q1272 hd_X1_find rfl ⟨Nat.le_of_ble_eq_true rfl, Nat.le_of_ble_eq_true rfl⟩ hS h_x0r1 hl.1 rfl (Nat.le_of_ble_eq_true rfl) dX1_heightFind_10 ⟨Nat.le_of_ble_eq_true rfl, Nat.le_of_ble_eq_true rfl⟩) ?_
  obtain rfl := Option.some.inj h
  rw [eQ]
  exact p_iret hx hb hr hlk dX1_heightFind_13 rfl

abbrev R_X1_heightOrder : Room := { frames := 5, cells := 2, slots := 2, locals := 117 }
noncomputable def f_X1_heightOrder (x0r0c : Nat → UInt64) (x0r1c : Nat → UInt64) (x0r2c : Nat → Int32) (x0f3 : Int32) (x0f4 : Int32) (x0f5 : Int32) (x0f6 : Int32) (x1 : Int32) (x2 : Int32) (x3 : Int32) : Option (Int32) :=
  Option.bind (f_X1_heightAt x0r0c x0r1c x0r2c x0f3 x0f4 x0f5 x0f6 x1) fun o1 =>
  Option.bind (f_X1_heightAt x0r0c x0r1c x0r2c x0f3 x0f4 x0f5 x0f6 x2) fun o2 =>
  Option.bind (f_X1_isIn x3 0 1) fun o3 =>
  Option.bind (f_X1_mustFit o3) fun o4 =>
  Option.bind (f_X1_orderOf o1 o2 x3) fun o5 =>
  some o5
theorem hd_X1_heightOrder : Hd yX1_heightOrder 3 := by unfold Hd; decide +kernel
set_option maxHeartbeats 4000000 in
set_option maxRecDepth 100000 in
theorem m_X1_heightOrder {l : Launch} {D : DD} (x0 : Nat) (x0r0 : Nat) (x0r1 : Nat) (x0r2 : Nat)  (x0r0c : Nat → UInt64) (x0r1c : Nat → UInt64) (x0r2c : Nat → Int32) (x0f3 : Int32) (x0f4 : Int32) (x0f5 : Int32) (x0f6 : Int32) (x1 : Int32) (x2 : Int32) (x3 : Int32) (r : Int32) (h : f_X1_heightOrder x0r0c x0r1c x0r2c x0f3 x0f4 x0f5 x0f6 x1 x2 x3 = some r) : MT l D yX1_heightOrder cX1_heightOrder 8 (some .int) 5 117 2 2 [.ref x0, .int x1, .int x2, .int x3] (fun H => ON D 0 x0 [.ref x0r0, .ref x0r1, .ref x0r2, .int x0f3, .int x0f4, .int x0f5, .int x0f6] H ∧ aD D x0r0 8 x0r0c H ∧ aD D x0r1 8 x0r1c H ∧ aZ D x0r2 8 x0r2c H) (pI (fun H b H' => b = r ∧ Off (fun _ => False) H H')) := by
  refine MT.start (by decide +kernel) (Nat.le_of_ble_eq_true rfl) ?_
  intro p e s m below meth c ls hC hS hp hl
  obtain ⟨h_x0, h_x0r0, h_x0r1, h_x0r2⟩ := hp
  obtain ⟨hx, hb, hr, hlk, hml, hown, hts, hnm⟩ := id hC
  have hl : lv_has ls 8 [(0, .ref x0), (1, .int x1), (2, .int x2), (3, .int x3)] := hl
  unfold f_X1_heightOrder at h
  have hS0 := hS
  obtain ⟨A, eA⟩ : ∃ A : Array Value, A = [.ref x0, .int x1, .int x2, .int x3].toArray := ⟨_, rfl⟩
  rw [← eA] at hC hts ⊢
  obtain ⟨Q, eQ⟩ : ∃ Q : State → Prop, Q = MQ below (TQ D (pI (fun H b H' => b = r ∧ Off (fun _ => False) H H'))) A s 2 2 (fun q => dB D ≤ q) := ⟨_, rfl⟩
  have hF : Off (fun _ => False) s.heap s.heap := Off.rf
  show W p l e R_X1_heightOrder s m A below meth c s.heap [] 0 0 _ _
  rw [← eQ]
  obtain ⟨H, eH⟩ : ∃ H : Heap, H = s.heap := ⟨_, rfl⟩
  obtain ⟨locs, eLc⟩ : ∃ L : List Loc, L = [] := ⟨_, rfl⟩
  have lt_h_x0 := h_x0.lt
  have lt_h_x0r0 := h_x0r0.lt
  have lt_h_x0r1 := h_x0r1.lt
  have lt_h_x0r2 := h_x0r2.lt
  rw [← eH, ← eLc]
  have hF : Off (fun _ => False) s.heap H := by rw [eH]; exact hF
  rw [← eH] at h_x0
  rw [← eH] at h_x0r0
  rw [← eH] at h_x0r1
  rw [← eH] at h_x0r2
  have hS : St D s H locs := by rw [eH, eLc]; exact hS
  refine lv_aload_n hx hb dX1_heightOrder_0 rfl (lv_at hl 0 rfl) ?_
  refine lv_iload_n hx hb dX1_heightOrder_1 rfl (lv_at hl 1 rfl) ?_
  obtain ⟨o1, eo1, h⟩ := bind_step h
  refine r_cp (r_runV (rest := []) (As := [.int x1]) hC 1 (m_X1_heightAt x0 x0r0 x0r1 x0r2  x0r0c x0r1c x0r2c x0f3 x0f4 x0f5 x0f6 x1 o1 eo1) q1202 q1204 qs13 q46 q1205 (OA.recv hS h_x0.OA (C := RX1) rfl) hd_X1_heightAt rfl ⟨Nat.le_of_ble_eq_true rfl, Nat.le_of_ble_eq_true rfl⟩ hS ⟨h_x0, h_x0r0, h_x0r1, h_x0r2⟩ hl.1 rfl (Nat.le_of_ble_eq_true rfl) dX1_heightOrder_2 ⟨Nat.le_of_ble_eq_true rfl, Nat.le_of_ble_eq_true rfl⟩) ?_
  refine lv_dstore (lv' := [(4, .double o1), (0, .ref x0), (1, .int x1), (2, .int x2), (3, .int x3)]) hx hb dX1_heightOrder_5 hl (by decide) rfl (fun ls hl => ?_)
  refine lv_aload_n hx hb dX1_heightOrder_7 rfl (lv_at hl 1 rfl) ?_
  refine lv_iload_n hx hb dX1_heightOrder_8 rfl (lv_at hl 3 rfl) ?_
  obtain ⟨o2, eo2, h⟩ := bind_step h
  refine r_cp (r_runV (rest := []) (As := [.int x2]) hC 1 (m_X1_heightAt x0 x0r0 x0r1 x0r2  x0r0c x0r1c x0r2c x0f3 x0f4 x0f5 x0f6 x2 o2 eo2) q1202 q1204 qs13 q46 q1205 (OA.recv hS h_x0.OA (C := RX1) rfl) hd_X1_heightAt rfl ⟨Nat.le_of_ble_eq_true rfl, Nat.le_of_ble_eq_true rfl⟩ hS ⟨h_x0, h_x0r0, h_x0r1, h_x0r2⟩ hl.1 rfl (Nat.le_of_ble_eq_true rfl) dX1_heightOrder_9 ⟨Nat.le_of_ble_eq_true rfl, Nat.le_of_ble_eq_true rfl⟩) ?_
  refine lv_dstore (lv' := [(6, .double o2), (4, .double o1), (0, .ref x0), (1, .int x1), (2, .int x2), (3, .int x3)]) hx hb dX1_heightOrder_12 hl (by decide) rfl (fun ls hl => ?_)
  refine lv_iload_n hx hb dX1_heightOrder_14 rfl (lv_at hl 5 rfl) ?_
  refine lv_iconst (v := 0) hx hb dX1_heightOrder_15 (by decide) ?_
  refine lv_iconst (v := 1) hx hb dX1_heightOrder_16 (by decide) ?_
  obtain ⟨o3, eo3, h⟩ := bind_step h
  refine r_cp (r_runS (rest := []) (As := [.int x3, .int 0, .int 1]) hC 3 (m_X1_isIn   x3 0 1 o3 eo3) q395 q396 q46 q397 hd_X1_isIn rfl ⟨Nat.le_of_ble_eq_true rfl, Nat.le_of_ble_eq_true rfl⟩ hS trivial hl.1 rfl (Nat.le_of_ble_eq_true rfl) dX1_heightOrder_17 ⟨Nat.le_of_ble_eq_true rfl, Nat.le_of_ble_eq_true rfl⟩) ?_
  obtain ⟨o4, eo4, h⟩ := bind_step h
  refine r_cpv (r_runS (rest := []) (As := [.int (bI o3)]) hC 1 (m_X1_mustFit   o3 o4 eo4) q1230 q1231 q46 q1232 hd_X1_mustFit rfl ⟨Nat.le_of_ble_eq_true rfl, Nat.le_of_ble_eq_true rfl⟩ hS trivial hl.1 rfl (Nat.le_of_ble_eq_true rfl) dX1_heightOrder_20 ⟨Nat.le_of_ble_eq_true rfl, Nat.le_of_ble_eq_true rfl⟩) ?_
  refine lv_dload hx hb dX1_heightOrder_23 (lv_at hl 1 rfl) ?_
  refine lv_dload hx hb dX1_heightOrder_25 (lv_at hl 0 rfl) ?_
  refine lv_iload_n hx hb dX1_heightOrder_27 rfl (lv_at hl 5 rfl) ?_
  obtain ⟨o5, eo5, h⟩ := bind_step h
  refine r_ci (r_runS (rest := []) (As := [.double o1, .double o2, .int x3]) hC 3 (m_X1_orderOf   o1 o2 x3 o5 eo5) q1291 q1292 q46 q1293 hd_X1_orderOf rfl ⟨Nat.le_of_ble_eq_true rfl, Nat.le_of_ble_eq_true rfl⟩ hS trivial hl.1 rfl (Nat.le_of_ble_eq_true rfl) dX1_heightOrder_28 ⟨Nat.le_of_ble_eq_true rfl, Nat.le_of_ble_eq_true rfl⟩) hS (fun b H locs hp hS hz => ?_)
  obtain ⟨eb_, hO⟩ := hp
  rw [eb_]
  have h_x0 := h_x0.ext hO
  have h_x0r0 := h_x0r0.ext hO
  have h_x0r1 := h_x0r1.ext hO
  have h_x0r2 := h_x0r2.ext hO
  have hF := hF.trans (hO.mono (fun _ _ z => z.elim))
  obtain rfl := Option.some.inj h
  rw [eQ]
  exact r_iret hx hb hr hlk hS (Nat.le_of_ble_eq_true rfl) (Nat.le_of_ble_eq_true rfl) dX1_heightOrder_31 ⟨_, rfl, rfl, hF⟩

abbrev R_X1_areParted : Room := { frames := 10, cells := 55, slots := 773, locals := 1433 }
noncomputable def f_X1_areParted (x0r0c : Nat → UInt64) (x0r1c : Nat → UInt64) (x0r2c : Nat → Int32) (x0f3 : Int32) (x0f4 : Int32) (x0f5 : Int32) (x0f6 : Int32) (x1 : Int32) : Option (Bool) :=
  lt (fun (f2 : Nat → UInt64) (v3 : Int32) =>
  (show Option (Sum ((Nat → UInt64) × Int32) ((Nat → UInt64))) from (
  (if 8 ≤ v3 then
    some (.inr f2)
  else
    gd 8 v3 fun i16 =>
    ltd (x0r0c i16) fun v17 =>
    Option.bind (f_X1_answer x1 v17) fun o18 =>
    gd 8 v3 fun i19 =>
    lt (va_up f2 i19 o18) fun f20 =>
    lti (v3 + 1) fun v21 =>
    some (.inl (f20, v21))
  )
  ))
  ) fun F12 =>
  Option.bind (lp 9 (fun x => F12 x.1 x.2) ((fun _ => 0), 0)) fun w13 =>
  lt (fun (v22 : Bool) (v23 : Int32) =>
  (show Option (Sum (Bool × Int32) (Bool)) from (
  (if 8 ≤ v23 then
    some (.inr v22)
  else
    lt (fun (v80 : Bool) (v81 : Int32) =>
    (show Option (Sum (Bool × Int32) (Bool)) from (
    (if 8 ≤ v81 then
      some (.inr v80)
    else
      lt (fun (v133 : Bool) =>
      gd 8 v23 fun i135 =>
      ltd (w13 i135) fun v136 =>
      gd 8 v81 fun i137 =>
      ltd (w13 i137) fun v138 =>
      Option.bind (f_J10_compare v136 v138) fun o139 =>
      lt (fun (v140 : Bool) =>
      lt (fun (v142 : Bool) =>
      lt (v80 && v142) fun v144 =>
      lti (v81 + 1) fun v145 =>
      some (.inl (v144, v145))
      ) fun K143 =>
      (if (bI v133) = (bI v140) then
        K143 true
      else
        K143 false
      )
      ) fun K141 =>
      (if o139 = 0 then
        K141 true
      else
        K141 false
      )
      ) fun K134 =>
      (if x1 = 1 then
        gd 8 v23 fun i154 =>
        ltd (x0r0c i154) fun v155 =>
        Option.bind (f_X1_sizeOf v155) fun o156 =>
        gd 8 v81 fun i157 =>
        ltd (x0r0c i157) fun v158 =>
        Option.bind (f_X1_sizeOf v158) fun o159 =>
        Option.bind (f_X1_isSame o156 o159) fun o160 =>
        K134 o160
      else
        gd 8 v23 fun i149 =>
        ltd (x0r0c i149) fun v150 =>
        gd 8 v81 fun i151 =>
        ltd (x0r0c i151) fun v152 =>
        Option.bind (f_X1_isSame v150 v152) fun o153 =>
        K134 o153
      )
    )
    ))
    ) fun F129 =>
    Option.bind (lp 9 (fun x => F129 x.1 x.2) (v22, 0)) fun w130 =>
    lti (v23 + 1) fun v161 =>
    some (.inl (w130, v161))
  )
  ))
  ) fun F76 =>
  Option.bind (lp 9 (fun x => F76 x.1 x.2) (true, 0)) fun w77 =>
  some w77
theorem hd_X1_areParted : Hd yX1_areParted 1 := by unfold Hd; decide +kernel
set_option maxHeartbeats 4000000 in
set_option maxRecDepth 100000 in
theorem m_X1_areParted {l : Launch} {D : DD} (x0 : Nat) (x0r0 : Nat) (x0r1 : Nat) (x0r2 : Nat)  (x0r0c : Nat → UInt64) (x0r1c : Nat → UInt64) (x0r2c : Nat → Int32) (x0f3 : Int32) (x0f4 : Int32) (x0f5 : Int32) (x0f6 : Int32) (x1 : Int32) (r : Bool) (h : f_X1_areParted x0r0c x0r1c x0r2c x0f3 x0f4 x0f5 x0f6 x1 = some r) : MT l D yX1_areParted cX1_areParted 7 (some .boolean) 10 1433 55 773 [.ref x0, .int x1] (fun H => ON D 0 x0 [.ref x0r0, .ref x0r1, .ref x0r2, .int x0f3, .int x0f4, .int x0f5, .int x0f6] H ∧ aD D x0r0 8 x0r0c H ∧ aD D x0r1 8 x0r1c H ∧ aZ D x0r2 8 x0r2c H) (pZ (fun H b H' => b = r ∧ Off (fun _ => False) H H')) := by
  refine MT.start (by decide +kernel) (Nat.le_of_ble_eq_true rfl) ?_
  intro p e s m below meth c ls hC hS hp hl
  obtain ⟨h_x0, h_x0r0, h_x0r1, h_x0r2⟩ := hp
  obtain ⟨hx, hb, hr, hlk, hml, hown, hts, hnm⟩ := id hC
  have hl : lv_has ls 7 [(0, .ref x0), (1, .int x1)] := hl
  unfold f_X1_areParted at h
  have hS0 := hS
  obtain ⟨A, eA⟩ : ∃ A : Array Value, A = [.ref x0, .int x1].toArray := ⟨_, rfl⟩
  rw [← eA] at hC hts ⊢
  obtain ⟨Q, eQ⟩ : ∃ Q : State → Prop, Q = MQ below (TQ D (pZ (fun H b H' => b = r ∧ Off (fun _ => False) H H'))) A s 55 773 (fun q => dB D ≤ q) := ⟨_, rfl⟩
  have hF : Off (fun _ => False) s.heap s.heap := Off.rf
  show W p l e R_X1_areParted s m A below meth c s.heap [] 0 0 _ _
  rw [← eQ]
  obtain ⟨H, eH⟩ : ∃ H : Heap, H = s.heap := ⟨_, rfl⟩
  obtain ⟨locs, eLc⟩ : ∃ L : List Loc, L = [] := ⟨_, rfl⟩
  have lt_h_x0 := h_x0.lt
  have lt_h_x0r0 := h_x0r0.lt
  have lt_h_x0r1 := h_x0r1.lt
  have lt_h_x0r2 := h_x0r2.lt
  rw [← eH, ← eLc]
  have hF : Off (fun _ => False) s.heap H := by rw [eH]; exact hF
  rw [← eH] at h_x0
  rw [← eH] at h_x0r0
  rw [← eH] at h_x0r1
  rw [← eH] at h_x0r2
  have hS : St D s H locs := by rw [eH, eLc]; exact hS
  refine lv_bipush (v := 8) hx hb dX1_areParted_0 (by decide) ?_
  refine r_newa hx hb hts hS (ty := .double) rfl q451 8 rfl (by decide) (by decide) (Nat.le_of_ble_eq_true rfl) (Nat.le_of_ble_eq_true rfl) dX1_areParted_2 (fun ad1 H eq_ad1 hS hE had1 z_ad1 hB_had1 => ?_)
  have had1 : aD D ad1 8 (fun _ => 0) H := had1
  have gad1 : s.heap.size ≤ ad1 := by have := hF.1; omega
  have ne_h_x0_had1 : x0 ≠ ad1 := by have := h_x0.lt; omega
  have h_x0 := h_x0.ext hE
  have ne_h_x0r0_had1 : x0r0 ≠ ad1 := by have := h_x0r0.lt; omega
  have h_x0r0 := h_x0r0.ext hE
  have ne_h_x0r1_had1 : x0r1 ≠ ad1 := by have := h_x0r1.lt; omega
  have h_x0r1 := h_x0r1.ext hE
  have ne_h_x0r2_had1 : x0r2 ≠ ad1 := by have := h_x0r2.lt; omega
  have h_x0r2 := h_x0r2.ext hE
  have hF := hF.trans (hE.mono (fun _ _ z => z.elim))
  refine lv_astore_n (lv' := [(2, .ref ad1), (0, .ref x0), (1, .int x1)]) hx hb dX1_areParted_4 rfl hl (by decide) rfl (fun ls hl => ?_)
  refine lv_iconst (v := 0) hx hb dX1_areParted_5 (by decide) ?_
  refine lv_istore_n (lv' := [(3, .int 0), (2, .ref ad1), (0, .ref x0), (1, .int x1)]) hx hb dX1_areParted_6 rfl hl (by decide) rfl (fun ls hl => ?_)
  obtain ⟨F12, eF12, h⟩ := lt_step h
  obtain ⟨w13, ew13, h⟩ := bind_step h
  obtain ⟨CE, eCE⟩ : ∃ x : Nat, x = 1 + 54 := ⟨_, rfl⟩
  obtain ⟨SE, eSE⟩ : ∃ x : Nat, x = 8 + 765 := ⟨_, rfl⟩
  have hCE : CE ≤ R_X1_areParted.cells := (by rw [eCE]; exact Nat.le_of_ble_eq_true rfl)
  have hSE : SE ≤ R_X1_areParted.slots := (by rw [eSE]; exact Nat.le_of_ble_eq_true rfl)
  have HL : ∀ (n : Nat) (f2 : Nat → UInt64) (v3 : Int32) (w13 : (Nat → UInt64)) (hk0 : lp n (fun x => F12 x.1 x.2) (f2, v3) = some w13) (cl : Nat) (sl : Nat) (hcl : cl + 6 * n ≤ CE) (hsl : sl + 85 * n ≤ SE) (H : Heap) (locs : List Loc) (hS : St D s H locs) (hF : Off (fun _ => False) s.heap H) (h_x0 : ON D 0 x0 [.ref x0r0, .ref x0r1, .ref x0r2, .int x0f3, .int x0f4, .int x0f5, .int x0f6] H) (h_x0r0 : aD D x0r0 8 x0r0c H) (h_x0r1 : aD D x0r1 8 x0r1c H) (h_x0r2 : aZ D x0r2 8 x0r2c H) (had1 : aD D ad1 8 f2 H) (ls : Array Slot) (hl : lv_has ls 7 [(0, .ref x0), (1, .int x1), (2, .ref ad1), (3, .int v3)]) (K32 : ∀ (H : Heap) (locs : List Loc) (hS : St D s H locs) (hF : Off (fun _ => False) s.heap H) (h_x0 : ON D 0 x0 [.ref x0r0, .ref x0r1, .ref x0r2, .int x0f3, .int x0f4, .int x0f5, .int x0f6] H) (h_x0r0 : aD D x0r0 8 x0r0c H) (h_x0r1 : aD D x0r1 8 x0r1c H) (h_x0r2 : aZ D x0r2 8 x0r2c H) (had1 : aD D ad1 8 w13 H) (ls : Array Slot) (hl : lv_has ls 7 [(0, .ref x0), (1, .int x1), (2, .ref ad1)]), W p l e R_X1_areParted s m A below meth c H locs CE SE Q (F0 m 32 ls [])), W p l e R_X1_areParted s m A below meth c H locs cl sl Q (F0 m 7 ls []) := by
    intro n
    induction n with
    | zero => intro f2 v3 w13 hk0 cl sl hcl hsl H locs hS hF h_x0 h_x0r0 h_x0r1 h_x0r2 had1 ls hl K32; exact lp_zero hk0
    | succ n ih =>
      intro f2 v3 w13 hk0 cl sl hcl hsl H locs hS hF h_x0 h_x0r0 h_x0r1 h_x0r2 had1 ls hl K32
      obtain ⟨z14, hz, hk⟩ := lp_step hk0
      have h := (congrFun (congrFun (eF12) f2) v3).symm.trans hz
      have hcO : cl + 6 ≤ CE := al_out hcl
      have hcE : cl + 6 ≤ R_X1_areParted.cells := Nat.le_trans hcO hCE
      have hcN : ∀ a, a ≤ 6 → cl + a + 6 * n ≤ CE := fun a ha => al_next hcl ha
      have hcN0 : cl + 6 * n ≤ CE := al_next hcl (Nat.zero_le _)
      have hsO : sl + 85 ≤ SE := al_out hsl
      have hsE : sl + 85 ≤ R_X1_areParted.slots := Nat.le_trans hsO hSE
      have hsN : ∀ a, a ≤ 85 → sl + a + 85 * n ≤ SE := fun a ha => al_next hsl ha
      have hsN0 : sl + 85 * n ≤ SE := al_next hsl (Nat.zero_le _)
      clear hcl hsl
      refine lv_iload_n hx hb dX1_areParted_7 rfl (lv_at hl 3 rfl) ?_
      refine lv_bipush (v := 8) hx hb dX1_areParted_8 (by decide) ?_
      refine lv_icmp_ge (tgt := 32) hx hb dX1_areParted_10 (by decide) (fun c15 => ?_) (fun c15 => ?_)
      · have h := it_pos h c15
        obtain rfl := Option.some.inj h
        obtain rfl := id hk
        refine W.widen (k := CE) (n := SE) (by omega) (by omega) ?_
        exact K32 H locs hS hF h_x0 h_x0r0 h_x0r1 h_x0r2 had1 ls (lv_sub hl [0, 1, 2] rfl)
      · have h := it_neg h c15
        refine lv_aload_n hx hb dX1_areParted_13 rfl (lv_at hl 2 rfl) ?_
        refine lv_iload_n hx hb dX1_areParted_14 rfl (lv_at hl 3 rfl) ?_
        refine lv_iload_n hx hb dX1_areParted_15 rfl (lv_at hl 1 rfl) ?_
        refine lv_aload_n hx hb dX1_areParted_16 rfl (lv_at hl 0 rfl) ?_
        refine r_get hx hb hts hown hS h_x0.OA rfl in_X1 0 (by decide) q914 rfl (v := .ref x0r0) rfl dX1_areParted_17 ?_
        refine lv_iload_n hx hb dX1_areParted_20 rfl (lv_at hl 3 rfl) ?_
        obtain ⟨i16, xi16, h⟩ := gd_step (by decide) h
        refine r_dald hx hb hS h_x0r0 i16 xi16 dX1_areParted_21 ?_
        obtain ⟨v17, ev17, h⟩ := ltd_step h
        refine r_nmD ev17 ?_
        obtain ⟨o18, eo18, h⟩ := bind_step h
        refine r_cd (r_runS (rest := [.int v3, .ref ad1]) (As := [.int x1, .double v17]) hC 2 (m_X1_answer   x1 v17 o18 eo18) q1336 q1337 q46 q1338 hd_X1_answer rfl ⟨Nat.le_of_ble_eq_true rfl, Nat.le_of_ble_eq_true rfl⟩ hS trivial hl.1 rfl (Nat.le_of_ble_eq_true rfl) dX1_areParted_22 ⟨by have := hcE; have := hsE; omega, by have := hcE; have := hsE; omega⟩) hS (fun b H locs hp hS hz => ?_)
        obtain ⟨eb_, hO⟩ := hp
        rw [eb_]
        have h_x0 := h_x0.ext hO
        have h_x0r0 := h_x0r0.ext hO
        have h_x0r1 := h_x0r1.ext hO
        have h_x0r2 := h_x0r2.ext hO
        have had1 := had1.ext hO
        have hF := hF.trans (hO.mono (fun _ _ z => z.elim))
        obtain ⟨i19, xi19, h⟩ := gd_step (by decide) h
        obtain ⟨f20, ef20, h⟩ := lt_step h
        refine r_dast hx hb hS had1 hB_had1 i19 xi19 dX1_areParted_25 (fun H locs hS hO had1 => ?_)
        have had1 : aD D ad1 8 f20 H := by rw [ef20]; exact had1
        have h_x0 := h_x0.off hO ne_h_x0_had1
        have h_x0r0 := h_x0r0.off hO ne_h_x0r0_had1
        have h_x0r1 := h_x0r1.off hO ne_h_x0r1_had1
        have h_x0r2 := h_x0r2.off hO ne_h_x0r2_had1
        have hF := hF.fresh hO (fun a ha z => absurd (z ▸ ha) (Nat.not_lt.mpr gad1))
        obtain ⟨v21, ev21, h⟩ := lti_step h
        refine lv_iinc (v := v21) (lv' := [(3, .int v21), (0, .ref x0), (1, .int x1), (2, .ref ad1)]) hx hb dX1_areParted_26 hl (k := 3) rfl (by rw [ev21]; rfl) (by decide) rfl (fun ls hl => ?_)
        refine lv_goto (tgt := 7) hx hb dX1_areParted_29 (by decide) ?_
        obtain rfl := Option.some.inj h
        exact ih f20 v21 w13 hk _ _ (hcN 6 (Nat.le_of_ble_eq_true rfl)) (hsN 85 (Nat.le_of_ble_eq_true rfl)) H locs hS hF h_x0 h_x0r0 h_x0r1 h_x0r2 had1 ls (lv_sub hl [1, 2, 3, 0] rfl) K32
  clear eF12
  refine HL 9 (fun _ => 0) 0 w13 ew13 _ _ (Nat.le_of_eq eCE.symm) (Nat.le_of_eq eSE.symm) H locs hS hF h_x0 h_x0r0 h_x0r1 h_x0r2 had1 ls (lv_sub hl [2, 3, 1, 0] rfl) (fun  H locs hS hF h_x0 h_x0r0 h_x0r1 h_x0r2 had1 ls hl => ?_)
  rw [eCE, eSE]
  refine lv_iconst (v := 1) hx hb dX1_areParted_32 (by decide) ?_
  refine lv_istore_n (lv' := [(3, .int 1), (0, .ref x0), (1, .int x1), (2, .ref ad1)]) hx hb dX1_areParted_33 rfl hl (by decide) rfl (fun ls hl => ?_)
  refine lv_iconst (v := 0) hx hb dX1_areParted_34 (by decide) ?_
  refine lv_istore (lv' := [(4, .int 0), (3, .int 1), (0, .ref x0), (1, .int x1), (2, .ref ad1)]) hx hb dX1_areParted_35 hl (by decide) rfl (fun ls hl => ?_)
  obtain ⟨F76, eF76, h⟩ := lt_step h
  obtain ⟨w77, ew77, h⟩ := bind_step h
  have HL : ∀ (n : Nat) (v22 : Bool) (v23 : Int32) (w77 : Bool) (hk0 : lp n (fun x => F76 x.1 x.2) (v22, v23) = some w77)  (H : Heap) (locs : List Loc) (hS : St D s H locs) (hF : Off (fun _ => False) s.heap H) (h_x0 : ON D 0 x0 [.ref x0r0, .ref x0r1, .ref x0r2, .int x0f3, .int x0f4, .int x0f5, .int x0f6] H) (h_x0r0 : aD D x0r0 8 x0r0c H) (h_x0r1 : aD D x0r1 8 x0r1c H) (h_x0r2 : aZ D x0r2 8 x0r2c H) (had1 : aD D ad1 8 w13 H) (ls : Array Slot) (hl : lv_has ls 7 [(0, .ref x0), (1, .int x1), (2, .ref ad1), (3, .int (bI v22)), (4, .int v23)]) (K148 : ∀ (H : Heap) (locs : List Loc) (hS : St D s H locs) (hF : Off (fun _ => False) s.heap H) (h_x0 : ON D 0 x0 [.ref x0r0, .ref x0r1, .ref x0r2, .int x0f3, .int x0f4, .int x0f5, .int x0f6] H) (h_x0r0 : aD D x0r0 8 x0r0c H) (h_x0r1 : aD D x0r1 8 x0r1c H) (h_x0r2 : aZ D x0r2 8 x0r2c H) (ls : Array Slot) (hl : lv_has ls 7 [(3, .int (bI w77))]), W p l e R_X1_areParted s m A below meth c H locs 55 773 Q (F0 m 148 ls [])), W p l e R_X1_areParted s m A below meth c H locs 55 773 Q (F0 m 37 ls []) := by
    intro n
    induction n with
    | zero => intro v22 v23 w77 hk0  H locs hS hF h_x0 h_x0r0 h_x0r1 h_x0r2 had1 ls hl K148; exact lp_zero hk0
    | succ n ih =>
      intro v22 v23 w77 hk0  H locs hS hF h_x0 h_x0r0 h_x0r1 h_x0r2 had1 ls hl K148
      obtain ⟨z78, hz, hk⟩ := lp_step hk0
      have h := (congrFun (congrFun (eF76) v22) v23).symm.trans hz
      refine lv_iload hx hb dX1_areParted_37 (lv_at hl 4 rfl) ?_
      refine lv_bipush (v := 8) hx hb dX1_areParted_39 (by decide) ?_
      refine lv_icmp_ge (tgt := 148) hx hb dX1_areParted_41 (by decide) (fun c79 => ?_) (fun c79 => ?_)
      · have h := it_pos h c79
        obtain rfl := Option.some.inj h
        obtain rfl := id hk
        exact K148 H locs hS hF h_x0 h_x0r0 h_x0r1 h_x0r2 ls (lv_sub hl [3] rfl)
      · have h := it_neg h c79
        refine lv_iconst (v := 0) hx hb dX1_areParted_44 (by decide) ?_
        refine lv_istore (lv' := [(5, .int 0), (0, .ref x0), (1, .int x1), (2, .ref ad1), (3, .int (bI v22)), (4, .int v23)]) hx hb dX1_areParted_45 hl (by decide) rfl (fun ls hl => ?_)
        obtain ⟨F129, eF129, h⟩ := lt_step h
        obtain ⟨w130, ew130, h⟩ := bind_step h
        have HL : ∀ (n : Nat) (v80 : Bool) (v81 : Int32) (w130 : Bool) (hk0 : lp n (fun x => F129 x.1 x.2) (v80, v81) = some w130)  (H : Heap) (locs : List Loc) (hS : St D s H locs) (hF : Off (fun _ => False) s.heap H) (h_x0 : ON D 0 x0 [.ref x0r0, .ref x0r1, .ref x0r2, .int x0f3, .int x0f4, .int x0f5, .int x0f6] H) (h_x0r0 : aD D x0r0 8 x0r0c H) (h_x0r1 : aD D x0r1 8 x0r1c H) (h_x0r2 : aZ D x0r2 8 x0r2c H) (had1 : aD D ad1 8 w13 H) (ls : Array Slot) (hl : lv_has ls 7 [(0, .ref x0), (1, .int x1), (2, .ref ad1), (3, .int (bI v80)), (4, .int v23), (5, .int v81)]) (K142 : ∀ (H : Heap) (locs : List Loc) (hS : St D s H locs) (hF : Off (fun _ => False) s.heap H) (h_x0 : ON D 0 x0 [.ref x0r0, .ref x0r1, .ref x0r2, .int x0f3, .int x0f4, .int x0f5, .int x0f6] H) (h_x0r0 : aD D x0r0 8 x0r0c H) (h_x0r1 : aD D x0r1 8 x0r1c H) (h_x0r2 : aZ D x0r2 8 x0r2c H) (had1 : aD D ad1 8 w13 H) (ls : Array Slot) (hl : lv_has ls 7 [(0, .ref x0), (1, .int x1), (2, .ref ad1), (3, .int (bI w130)), (4, .int v23)]), W p l e R_X1_areParted s m A below meth c H locs 55 773 Q (F0 m 142 ls [])), W p l e R_X1_areParted s m A below meth c H locs 55 773 Q (F0 m 47 ls []) := by
          intro n
          induction n with
          | zero => intro v80 v81 w130 hk0  H locs hS hF h_x0 h_x0r0 h_x0r1 h_x0r2 had1 ls hl K142; exact lp_zero hk0
          | succ n ih =>
            intro v80 v81 w130 hk0  H locs hS hF h_x0 h_x0r0 h_x0r1 h_x0r2 had1 ls hl K142
            obtain ⟨z131, hz, hk⟩ := lp_step hk0
            have h := (congrFun (congrFun (eF129) v80) v81).symm.trans hz
            refine lv_iload hx hb dX1_areParted_47 (lv_at hl 5 rfl) ?_
            refine lv_bipush (v := 8) hx hb dX1_areParted_49 (by decide) ?_
            refine lv_icmp_ge (tgt := 142) hx hb dX1_areParted_51 (by decide) (fun c132 => ?_) (fun c132 => ?_)
            · have h := it_pos h c132
              obtain rfl := Option.some.inj h
              obtain rfl := id hk
              exact K142 H locs hS hF h_x0 h_x0r0 h_x0r1 h_x0r2 had1 ls (lv_sub hl [0, 1, 2, 3, 4] rfl)
            · have h := it_neg h c132
              refine lv_iload_n hx hb dX1_areParted_54 rfl (lv_at hl 1 rfl) ?_
              refine lv_iconst (v := 1) hx hb dX1_areParted_55 (by decide) ?_
              obtain ⟨K134, eK134, h⟩ := lt_step h
              have HK134 : ∀ (v133 : Bool) (h : K134 v133 = some z131) (H : Heap) (locs : List Loc) (hS : St D s H locs) (hF : Off (fun _ => False) s.heap H) (h_x0 : ON D 0 x0 [.ref x0r0, .ref x0r1, .ref x0r2, .int x0f3, .int x0f4, .int x0f5, .int x0f6] H) (h_x0r0 : aD D x0r0 8 x0r0c H) (h_x0r1 : aD D x0r1 8 x0r1c H) (h_x0r2 : aZ D x0r2 8 x0r2c H) (had1 : aD D ad1 8 w13 H) (ls : Array Slot) (hl : lv_has ls 7 [(0, .ref x0), (1, .int x1), (2, .ref ad1), (3, .int (bI v80)), (4, .int v23), (5, .int v81)]), W p l e R_X1_areParted s m A below meth c H locs 55 773 Q (F0 m 102 ls [.int (bI v133)]) := by
                intro v133 h H locs hS hF h_x0 h_x0r0 h_x0r1 h_x0r2 had1 ls hl
                subst eK134
                refine lv_istore (lv' := [(6, .int (bI v133)), (0, .ref x0), (1, .int x1), (2, .ref ad1), (3, .int (bI v80)), (4, .int v23), (5, .int v81)]) hx hb dX1_areParted_102 hl (by decide) rfl (fun ls hl => ?_)
                refine lv_iload_n hx hb dX1_areParted_104 rfl (lv_at hl 4 rfl) ?_
                refine lv_iload hx hb dX1_areParted_105 (lv_at hl 0 rfl) ?_
                refine lv_aload_n hx hb dX1_areParted_107 rfl (lv_at hl 3 rfl) ?_
                refine lv_iload hx hb dX1_areParted_108 (lv_at hl 5 rfl) ?_
                obtain ⟨i135, xi135, h⟩ := gd_step (by decide) h
                refine r_dald hx hb hS had1 i135 xi135 dX1_areParted_110 ?_
                obtain ⟨v136, ev136, h⟩ := ltd_step h
                refine r_nmD ev136 ?_
                refine lv_aload_n hx hb dX1_areParted_111 rfl (lv_at hl 3 rfl) ?_
                refine lv_iload hx hb dX1_areParted_112 (lv_at hl 6 rfl) ?_
                obtain ⟨i137, xi137, h⟩ := gd_step (by decide) h
                refine r_dald hx hb hS had1 i137 xi137 dX1_areParted_114 ?_
                obtain ⟨v138, ev138, h⟩ := ltd_step h
                refine r_nmD ev138 ?_
                obtain ⟨o139, eo139, h⟩ := bind_step h
                refine r_cp (r_runS (rest := [.int (bI v133), .int (bI v80)]) (As := [.double v136, .double v138]) hC 2 (m_J10_compare   v136 v138 o139 eo139) q1294 q1295 q51 q1296 hd_J10_compare rfl ⟨Nat.le_of_ble_eq_true rfl, Nat.le_of_ble_eq_true rfl⟩ hS trivial hl.1 rfl (Nat.le_of_ble_eq_true rfl) dX1_areParted_115 ⟨Nat.le_of_ble_eq_true rfl, Nat.le_of_ble_eq_true rfl⟩) ?_
                obtain ⟨K141, eK141, h⟩ := lt_step h
                have HK141 : ∀ (v140 : Bool) (h : K141 v140 = some z131) (H : Heap) (locs : List Loc) (hS : St D s H locs) (hF : Off (fun _ => False) s.heap H) (h_x0 : ON D 0 x0 [.ref x0r0, .ref x0r1, .ref x0r2, .int x0f3, .int x0f4, .int x0f5, .int x0f6] H) (h_x0r0 : aD D x0r0 8 x0r0c H) (h_x0r1 : aD D x0r1 8 x0r1c H) (h_x0r2 : aZ D x0r2 8 x0r2c H) (had1 : aD D ad1 8 w13 H) (ls : Array Slot) (hl : lv_has ls 7 [(0, .ref x0), (1, .int x1), (2, .ref ad1), (4, .int v23), (5, .int v81)]), W p l e R_X1_areParted s m A below meth c H locs 55 773 Q (F0 m 126 ls [.int (bI v140), .int (bI v133), .int (bI v80)]) := by
                  intro v140 h H locs hS hF h_x0 h_x0r0 h_x0r1 h_x0r2 had1 ls hl
                  subst eK141
                  obtain ⟨K143, eK143, h⟩ := lt_step h
                  have HK143 : ∀ (v142 : Bool) (h : K143 v142 = some z131) (H : Heap) (locs : List Loc) (hS : St D s H locs) (hF : Off (fun _ => False) s.heap H) (h_x0 : ON D 0 x0 [.ref x0r0, .ref x0r1, .ref x0r2, .int x0f3, .int x0f4, .int x0f5, .int x0f6] H) (h_x0r0 : aD D x0r0 8 x0r0c H) (h_x0r1 : aD D x0r1 8 x0r1c H) (h_x0r2 : aZ D x0r2 8 x0r2c H) (had1 : aD D ad1 8 w13 H) (ls : Array Slot) (hl : lv_has ls 7 [(0, .ref x0), (1, .int x1), (2, .ref ad1), (4, .int v23), (5, .int v81)]), W p l e R_X1_areParted s m A below meth c H locs 55 773 Q (F0 m 134 ls [.int (bI v142), .int (bI v80)]) := by
                    intro v142 h H locs hS hF h_x0 h_x0r0 h_x0r1 h_x0r2 had1 ls hl
                    subst eK143
                    obtain ⟨v144, ev144, h⟩ := lt_step h
                    refine r_iandB hx hb ev144 dX1_areParted_134 ?_
                    refine lv_istore_n (lv' := [(3, .int (bI v144)), (0, .ref x0), (1, .int x1), (2, .ref ad1), (4, .int v23), (5, .int v81)]) hx hb dX1_areParted_135 rfl hl (by decide) rfl (fun ls hl => ?_)
                    obtain ⟨v145, ev145, h⟩ := lti_step h
                    refine lv_iinc (v := v145) (lv' := [(5, .int v145), (3, .int (bI v144)), (0, .ref x0), (1, .int x1), (2, .ref ad1), (4, .int v23)]) hx hb dX1_areParted_136 hl (k := 5) rfl (by rw [ev145]; rfl) (by decide) rfl (fun ls hl => ?_)
                    refine lv_goto (tgt := 47) hx hb dX1_areParted_139 (by decide) ?_
                    obtain rfl := Option.some.inj h
                    exact ih v144 v145 w130 hk  H locs hS hF h_x0 h_x0r0 h_x0r1 h_x0r2 had1 ls (lv_sub hl [2, 3, 4, 1, 5, 0] rfl) K142
                  clear eK143
                  refine lv_icmp_ne (tgt := 133) hx hb dX1_areParted_126 (by decide) (fun c146 => ?_) (fun c146 => ?_)
                  · have h := it_neg h c146
                    refine lv_iconst (v := 0) hx hb dX1_areParted_133 (by decide) ?_
                    exact HK143 false h H locs hS hF h_x0 h_x0r0 h_x0r1 h_x0r2 had1 ls (lv_sub hl [0, 1, 2, 3, 4] rfl)
                  · have h := it_pos h c146
                    refine lv_iconst (v := 1) hx hb dX1_areParted_129 (by decide) ?_
                    refine lv_goto (tgt := 134) hx hb dX1_areParted_130 (by decide) ?_
                    exact HK143 true h H locs hS hF h_x0 h_x0r0 h_x0r1 h_x0r2 had1 ls (lv_sub hl [0, 1, 2, 3, 4] rfl)
                clear eK141
                refine lv_if_ne (tgt := 125) hx hb dX1_areParted_118 (by decide) (fun c147 => ?_) (fun c147 => ?_)
                · have h := it_neg h c147
                  refine lv_iconst (v := 0) hx hb dX1_areParted_125 (by decide) ?_
                  exact HK141 false h H locs hS hF h_x0 h_x0r0 h_x0r1 h_x0r2 had1 ls (lv_sub hl [1, 2, 3, 5, 6] rfl)
                · have h := it_pos h c147
                  refine lv_iconst (v := 1) hx hb dX1_areParted_121 (by decide) ?_
                  refine lv_goto (tgt := 126) hx hb dX1_areParted_122 (by decide) ?_
                  exact HK141 true h H locs hS hF h_x0 h_x0r0 h_x0r1 h_x0r2 had1 ls (lv_sub hl [1, 2, 3, 5, 6] rfl)
              clear eK134
              refine lv_icmp_ne (tgt := 85) hx hb dX1_areParted_56 (by decide) (fun c148 => ?_) (fun c148 => ?_)
              · have h := it_neg h c148
                refine lv_aload_n hx hb dX1_areParted_85 rfl (lv_at hl 0 rfl) ?_
                refine r_get hx hb hts hown hS h_x0.OA rfl in_X1 0 (by decide) q914 rfl (v := .ref x0r0) rfl dX1_areParted_86 ?_
                refine lv_iload hx hb dX1_areParted_89 (lv_at hl 4 rfl) ?_
                obtain ⟨i149, xi149, h⟩ := gd_step (by decide) h
                refine r_dald hx hb hS h_x0r0 i149 xi149 dX1_areParted_91 ?_
                obtain ⟨v150, ev150, h⟩ := ltd_step h
                refine r_nmD ev150 ?_
                refine lv_aload_n hx hb dX1_areParted_92 rfl (lv_at hl 0 rfl) ?_
                refine r_get hx hb hts hown hS h_x0.OA rfl in_X1 0 (by decide) q914 rfl (v := .ref x0r0) rfl dX1_areParted_93 ?_
                refine lv_iload hx hb dX1_areParted_96 (lv_at hl 5 rfl) ?_
                obtain ⟨i151, xi151, h⟩ := gd_step (by decide) h
                refine r_dald hx hb hS h_x0r0 i151 xi151 dX1_areParted_98 ?_
                obtain ⟨v152, ev152, h⟩ := ltd_step h
                refine r_nmD ev152 ?_
                obtain ⟨o153, eo153, h⟩ := bind_step h
                refine r_cp (r_runS (rest := []) (As := [.double v150, .double v152]) hC 2 (m_X1_isSame   v150 v152 o153 eo153) q1273 q1274 q46 q1275 hd_X1_isSame rfl ⟨Nat.le_of_ble_eq_true rfl, Nat.le_of_ble_eq_true rfl⟩ hS trivial hl.1 rfl (Nat.le_of_ble_eq_true rfl) dX1_areParted_99 ⟨Nat.le_of_ble_eq_true rfl, Nat.le_of_ble_eq_true rfl⟩) ?_
                exact HK134 o153 h H locs hS hF h_x0 h_x0r0 h_x0r1 h_x0r2 had1 ls (lv_sub hl [0, 1, 2, 3, 4, 5] rfl)
              · have h := it_pos h c148
                refine lv_aload_n hx hb dX1_areParted_59 rfl (lv_at hl 0 rfl) ?_
                refine r_get hx hb hts hown hS h_x0.OA rfl in_X1 0 (by decide) q914 rfl (v := .ref x0r0) rfl dX1_areParted_60 ?_
                refine lv_iload hx hb dX1_areParted_63 (lv_at hl 4 rfl) ?_
                obtain ⟨i154, xi154, h⟩ := gd_step (by decide) h
                refine r_dald hx hb hS h_x0r0 i154 xi154 dX1_areParted_65 ?_
                obtain ⟨v155, ev155, h⟩ := ltd_step h
                refine r_nmD ev155 ?_
                obtain ⟨o156, eo156, h⟩ := bind_step h
                refine r_cp (r_runS (rest := []) (As := [.double v155]) hC 1 (m_X1_sizeOf   v155 o156 eo156) q375 q376 q46 q377 hd_X1_sizeOf rfl ⟨Nat.le_of_ble_eq_true rfl, Nat.le_of_ble_eq_true rfl⟩ hS trivial hl.1 rfl (Nat.le_of_ble_eq_true rfl) dX1_areParted_66 ⟨Nat.le_of_ble_eq_true rfl, Nat.le_of_ble_eq_true rfl⟩) ?_
                refine lv_aload_n hx hb dX1_areParted_69 rfl (lv_at hl 0 rfl) ?_
                refine r_get hx hb hts hown hS h_x0.OA rfl in_X1 0 (by decide) q914 rfl (v := .ref x0r0) rfl dX1_areParted_70 ?_
                refine lv_iload hx hb dX1_areParted_73 (lv_at hl 5 rfl) ?_
                obtain ⟨i157, xi157, h⟩ := gd_step (by decide) h
                refine r_dald hx hb hS h_x0r0 i157 xi157 dX1_areParted_75 ?_
                obtain ⟨v158, ev158, h⟩ := ltd_step h
                refine r_nmD ev158 ?_
                obtain ⟨o159, eo159, h⟩ := bind_step h
                refine r_cp (r_runS (rest := [.double o156]) (As := [.double v158]) hC 1 (m_X1_sizeOf   v158 o159 eo159) q375 q376 q46 q377 hd_X1_sizeOf rfl ⟨Nat.le_of_ble_eq_true rfl, Nat.le_of_ble_eq_true rfl⟩ hS trivial hl.1 rfl (Nat.le_of_ble_eq_true rfl) dX1_areParted_76 ⟨Nat.le_of_ble_eq_true rfl, Nat.le_of_ble_eq_true rfl⟩) ?_
                obtain ⟨o160, eo160, h⟩ := bind_step h
                refine r_cp (r_runS (rest := []) (As := [.double o156, .double o159]) hC 2 (m_X1_isSame   o156 o159 o160 eo160) q1273 q1274 q46 q1275 hd_X1_isSame rfl ⟨Nat.le_of_ble_eq_true rfl, Nat.le_of_ble_eq_true rfl⟩ hS trivial hl.1 rfl (Nat.le_of_ble_eq_true rfl) dX1_areParted_79 ⟨Nat.le_of_ble_eq_true rfl, Nat.le_of_ble_eq_true rfl⟩) ?_
                refine lv_goto (tgt := 102) hx hb dX1_areParted_82 (by decide) ?_
                exact HK134 o160 h H locs hS hF h_x0 h_x0r0 h_x0r1 h_x0r2 had1 ls (lv_sub hl [0, 1, 2, 3, 4, 5] rfl)
        clear eF129
        refine HL 9 v22 0 w130 ew130  H locs hS hF h_x0 h_x0r0 h_x0r1 h_x0r2 had1 ls (lv_sub hl [1, 2, 3, 4, 5, 0] rfl) (fun  H locs hS hF h_x0 h_x0r0 h_x0r1 h_x0r2 had1 ls hl => ?_)
        obtain ⟨v161, ev161, h⟩ := lti_step h
        refine lv_iinc (v := v161) (lv' := [(4, .int v161), (0, .ref x0), (1, .int x1), (2, .ref ad1), (3, .int (bI w130))]) hx hb dX1_areParted_142 hl (k := 4) rfl (by rw [ev161]; rfl) (by decide) rfl (fun ls hl => ?_)
        refine lv_goto (tgt := 37) hx hb dX1_areParted_145 (by decide) ?_
        obtain rfl := Option.some.inj h
        exact ih w130 v161 w77 hk  H locs hS hF h_x0 h_x0r0 h_x0r1 h_x0r2 had1 ls (lv_sub hl [1, 2, 3, 4, 0] rfl) K148
  clear eF76
  refine HL 9 true 0 w77 ew77  H locs hS hF h_x0 h_x0r0 h_x0r1 h_x0r2 had1 ls (lv_sub hl [2, 3, 4, 1, 0] rfl) (fun  H locs hS hF h_x0 h_x0r0 h_x0r1 h_x0r2 ls hl => ?_)
  refine lv_iload_n hx hb dX1_areParted_148 rfl (lv_at hl 0 rfl) ?_
  obtain rfl := Option.some.inj h
  rw [eQ]
  exact r_zret hx hb hr hlk hS (narB _) (Nat.le_of_ble_eq_true rfl) (Nat.le_of_ble_eq_true rfl) dX1_areParted_149 ⟨_, rfl, rfl, hF⟩

abbrev R_X1_sine : Room := { frames := 9, cells := 6, slots := 85, locals := 1411 }
noncomputable def f_X1_sine (x0r0c : Nat → UInt64) (x0r1c : Nat → UInt64) (x0r2c : Nat → Int32) (x0f3 : Int32) (x0f4 : Int32) (x0f5 : Int32) (x0f6 : Int32) (x1 : Int32) (x2 : Int32) : Option (Int32 × Int32 × (Nat → UInt64)) :=
  Option.bind (f_X1_angleAt x0r0c x0r1c x0r2c x0f3 x0f4 x0f5 x0f6 x1) fun o1 =>
  Option.bind (f_J6_sin o1) fun o2 =>
  Option.bind (f_X1_heightPut x0r0c x0r1c x0r2c x0f3 x0f4 x0f5 x0f6 x2 o2) fun o3 =>
  some (o3.1, o3.2.1, o3.2.2)
theorem hd_X1_sine : Hd yX1_sine 2 := by unfold Hd; decide +kernel
set_option maxHeartbeats 4000000 in
set_option maxRecDepth 100000 in
theorem m_X1_sine {l : Launch} {D : DD} (x0 : Nat) (x0r0 : Nat) (x0r1 : Nat) (x0r2 : Nat)  (x0r0c : Nat → UInt64) (x0r1c : Nat → UInt64) (x0r2c : Nat → Int32) (x0f3 : Int32) (x0f4 : Int32) (x0f5 : Int32) (x0f6 : Int32) (x1 : Int32) (x2 : Int32) (r : Int32 × Int32 × (Nat → UInt64)) (h : f_X1_sine x0r0c x0r1c x0r2c x0f3 x0f4 x0f5 x0f6 x1 x2 = some r) : MT l D yX1_sine cX1_sine 3 (some .int) 9 1411 6 85 [.ref x0, .int x1, .int x2] (fun H => ON D 0 x0 [.ref x0r0, .ref x0r1, .ref x0r2, .int x0f3, .int x0f4, .int x0f5, .int x0f6] H ∧ dB D ≤ x0 ∧ aD D x0r0 8 x0r0c H ∧ aD D x0r1 8 x0r1c H ∧ dB D ≤ x0r1 ∧ aZ D x0r2 8 x0r2c H ∧ x0 ≠ x0r0 ∧ x0 ≠ x0r1 ∧ x0 ≠ x0r2 ∧ x0r0 ≠ x0r1 ∧ x0r1 ≠ x0r2) (pI (fun H b H' => b = r.1 ∧ ON D 0 x0 [.ref x0r0, .ref x0r1, .ref x0r2, .int x0f3, .int r.2.1, .int x0f5, .int x0f6] H' ∧ aD D x0r1 8 r.2.2 H' ∧ Off (fun a => a = x0 ∨ a = x0r1) H H')) := by
  refine MT.start (by decide +kernel) (Nat.le_of_ble_eq_true rfl) ?_
  intro p e s m below meth c ls hC hS hp hl
  obtain ⟨h_x0, hB_h_x0, h_x0r0, h_x0r1, hB_h_x0r1, h_x0r2, ne_x0_x0r0, ne_x0_x0r1, ne_x0_x0r2, ne_x0r0_x0r1, ne_x0r1_x0r2⟩ := hp
  obtain ⟨hx, hb, hr, hlk, hml, hown, hts, hnm⟩ := id hC
  have hl : lv_has ls 3 [(0, .ref x0), (1, .int x1), (2, .int x2)] := hl
  unfold f_X1_sine at h
  have hS0 := hS
  obtain ⟨A, eA⟩ : ∃ A : Array Value, A = [.ref x0, .int x1, .int x2].toArray := ⟨_, rfl⟩
  rw [← eA] at hC hts ⊢
  obtain ⟨Q, eQ⟩ : ∃ Q : State → Prop, Q = MQ below (TQ D (pI (fun H b H' => b = r.1 ∧ ON D 0 x0 [.ref x0r0, .ref x0r1, .ref x0r2, .int x0f3, .int r.2.1, .int x0f5, .int x0f6] H' ∧ aD D x0r1 8 r.2.2 H' ∧ Off (fun a => a = x0 ∨ a = x0r1) H H'))) A s 6 85 (fun q => dB D ≤ q) := ⟨_, rfl⟩
  have hF : Off (fun a => a = x0 ∨ a = x0r1) s.heap s.heap := Off.rf
  show W p l e R_X1_sine s m A below meth c s.heap [] 0 0 _ _
  rw [← eQ]
  obtain ⟨H, eH⟩ : ∃ H : Heap, H = s.heap := ⟨_, rfl⟩
  obtain ⟨locs, eLc⟩ : ∃ L : List Loc, L = [] := ⟨_, rfl⟩
  have lt_h_x0 := h_x0.lt
  have lt_h_x0r0 := h_x0r0.lt
  have lt_h_x0r1 := h_x0r1.lt
  have lt_h_x0r2 := h_x0r2.lt
  rw [← eH, ← eLc]
  have hF : Off (fun a => a = x0 ∨ a = x0r1) s.heap H := by rw [eH]; exact hF
  rw [← eH] at h_x0
  rw [← eH] at h_x0r0
  rw [← eH] at h_x0r1
  rw [← eH] at h_x0r2
  have hS : St D s H locs := by rw [eH, eLc]; exact hS
  refine lv_aload_n hx hb dX1_sine_0 rfl (lv_at hl 0 rfl) ?_
  refine lv_iload_n hx hb dX1_sine_1 rfl (lv_at hl 2 rfl) ?_
  refine lv_aload_n hx hb dX1_sine_2 rfl (lv_at hl 0 rfl) ?_
  refine lv_iload_n hx hb dX1_sine_3 rfl (lv_at hl 1 rfl) ?_
  obtain ⟨o1, eo1, h⟩ := bind_step h
  refine r_cp (r_runV (rest := [.int x2, .ref x0]) (As := [.int x1]) hC 1 (m_X1_angleAt x0 x0r0 x0r1 x0r2  x0r0c x0r1c x0r2c x0f3 x0f4 x0f5 x0f6 x1 o1 eo1) q952 q954 qs11 q46 q955 (OA.recv hS h_x0.OA (C := RX1) rfl) hd_X1_angleAt rfl ⟨Nat.le_of_ble_eq_true rfl, Nat.le_of_ble_eq_true rfl⟩ hS ⟨h_x0, h_x0r0, h_x0r1, h_x0r2⟩ hl.1 rfl (Nat.le_of_ble_eq_true rfl) dX1_sine_4 ⟨Nat.le_of_ble_eq_true rfl, Nat.le_of_ble_eq_true rfl⟩) ?_
  obtain ⟨o2, eo2, h⟩ := bind_step h
  refine r_cd (r_runS (rest := [.int x2, .ref x0]) (As := [.double o1]) hC 1 (m_J6_sin o1  o2 eo2) q173 q174 q47 q175 hd_J6_sin rfl ⟨Nat.le_of_ble_eq_true rfl, Nat.le_of_ble_eq_true rfl⟩ hS trivial hl.1 rfl (Nat.le_of_ble_eq_true rfl) dX1_sine_7 ⟨Nat.le_of_ble_eq_true rfl, Nat.le_of_ble_eq_true rfl⟩) hS (fun b H locs hp hS hz => ?_)
  obtain ⟨eb_, hO⟩ := hp
  rw [eb_]
  have h_x0 := h_x0.ext hO
  have h_x0r0 := h_x0r0.ext hO
  have h_x0r1 := h_x0r1.ext hO
  have h_x0r2 := h_x0r2.ext hO
  have hF := hF.trans (hO.mono (fun _ _ z => z.elim))
  obtain ⟨o3, eo3, h⟩ := bind_step h
  refine r_ci (r_runV (rest := []) (As := [.int x2, .double o2]) hC 2 (m_X1_heightPut x0 x0r0 x0r1 x0r2  x0r0c x0r1c x0r2c x0f3 x0f4 x0f5 x0f6 x2 o2 o3 eo3) q1377 q1379 qs24 q46 q1380 (OA.recv hS h_x0.OA (C := RX1) rfl) hd_X1_heightPut rfl ⟨Nat.le_of_ble_eq_true rfl, Nat.le_of_ble_eq_true rfl⟩ hS ⟨h_x0, hB_h_x0, h_x0r0, h_x0r1, hB_h_x0r1, h_x0r2, ne_x0_x0r0, ne_x0_x0r1, ne_x0_x0r2, ne_x0r0_x0r1, ne_x0r1_x0r2⟩ hl.1 rfl (Nat.le_of_ble_eq_true rfl) dX1_sine_10 ⟨Nat.le_of_ble_eq_true rfl, Nat.le_of_ble_eq_true rfl⟩) hS (fun b H locs hp hS hz => ?_)
  obtain ⟨rfl, h_x0, h_x0r1, hO⟩ := hp
  have h_x0r0 := h_x0r0.off hO (fun z => by rcases z with z | z <;> first | exact (Ne.symm ne_x0_x0r0) z | exact ne_x0r0_x0r1 z)
  have h_x0r2 := h_x0r2.off hO (fun z => by rcases z with z | z <;> first | exact (Ne.symm ne_x0_x0r2) z | exact (Ne.symm ne_x0r1_x0r2) z)
  have hF := hF.fresh hO (fun a ha z => by
    rcases z with z | z
    · exact Or.inl z
    · exact Or.inr (z))
  obtain rfl := Option.some.inj h
  rw [eQ]
  exact r_iret hx hb hr hlk hS (Nat.le_of_ble_eq_true rfl) (Nat.le_of_ble_eq_true rfl) dX1_sine_13 ⟨_, rfl, rfl, h_x0, h_x0r1, hF⟩

abbrev R_X1_peak : Room := { frames := 10, cells := 108, slots := 1530, locals := 1433 }
noncomputable def f_X1_peak (x0r0c : Nat → UInt64) (x0r1c : Nat → UInt64) (x0r2c : Nat → Int32) (x0f3 : Int32) (x0f4 : Int32) (x0f5 : Int32) (x0f6 : Int32) (x1 : Int32) (x2 : Int32) (x3 : Int32) : Option (Int32) :=
  Option.bind (f_X1_mustBeRow x1 x2 x3) fun o1 =>
  ltd (i2dF x2) fun v2 =>
  ck (dmulF v2 4593671619917905920) fun v3 =>
  Option.bind (f_X1_answer x1 v3) fun o4 =>
  lti (x2 + 1) fun v5 =>
  lt (fun (v6 : Int32) (v7 : UInt64) (v8 : Int32) =>
  (show Option (Sum (Int32 × UInt64 × Int32) (Int32)) from (
  lti (x2 + x3) fun v22 =>
  (if v22 ≤ v8 then
    some (.inr v6)
  else
    ltd (i2dF v8) fun v24 =>
    ck (dmulF v24 4593671619917905920) fun v25 =>
    Option.bind (f_X1_answer x1 v25) fun o26 =>
    Option.bind (f_J10_compare o26 v7) fun o27 =>
    lt (fun (v28 : Int32) (v29 : UInt64) =>
    lti (v8 + 1) fun v31 =>
    some (.inl (v28, v29, v31))
    ) fun K30 =>
    (if o27 ≤ 0 then
      K30 v6 v7
    else
      K30 v8 o26
    )
  )
  ))
  ) fun F19 =>
  Option.bind (lp 17 (fun x => F19 x.1 x.2.1 x.2.2) (x2, o4, v5)) fun w20 =>
  some w20
theorem hd_X1_peak : Hd yX1_peak 3 := by unfold Hd; decide +kernel
set_option maxHeartbeats 4000000 in
set_option maxRecDepth 100000 in
theorem m_X1_peak {l : Launch} {D : DD} (x0 : Nat) (x0r0 : Nat) (x0r1 : Nat) (x0r2 : Nat)  (x0r0c : Nat → UInt64) (x0r1c : Nat → UInt64) (x0r2c : Nat → Int32) (x0f3 : Int32) (x0f4 : Int32) (x0f5 : Int32) (x0f6 : Int32) (x1 : Int32) (x2 : Int32) (x3 : Int32) (r : Int32) (h : f_X1_peak x0r0c x0r1c x0r2c x0f3 x0f4 x0f5 x0f6 x1 x2 x3 = some r) : MT l D yX1_peak cX1_peak 10 (some .int) 10 1433 108 1530 [.ref x0, .int x1, .int x2, .int x3] (fun H => ON D 0 x0 [.ref x0r0, .ref x0r1, .ref x0r2, .int x0f3, .int x0f4, .int x0f5, .int x0f6] H ∧ aD D x0r0 8 x0r0c H ∧ aD D x0r1 8 x0r1c H ∧ aZ D x0r2 8 x0r2c H) (pI (fun H b H' => b = r ∧ Off (fun _ => False) H H')) := by
  refine MT.start (by decide +kernel) (Nat.le_of_ble_eq_true rfl) ?_
  intro p e s m below meth c ls hC hS hp hl
  obtain ⟨h_x0, h_x0r0, h_x0r1, h_x0r2⟩ := hp
  obtain ⟨hx, hb, hr, hlk, hml, hown, hts, hnm⟩ := id hC
  have hl : lv_has ls 10 [(0, .ref x0), (1, .int x1), (2, .int x2), (3, .int x3)] := hl
  unfold f_X1_peak at h
  have hS0 := hS
  obtain ⟨A, eA⟩ : ∃ A : Array Value, A = [.ref x0, .int x1, .int x2, .int x3].toArray := ⟨_, rfl⟩
  rw [← eA] at hC hts ⊢
  obtain ⟨Q, eQ⟩ : ∃ Q : State → Prop, Q = MQ below (TQ D (pI (fun H b H' => b = r ∧ Off (fun _ => False) H H'))) A s 108 1530 (fun q => dB D ≤ q) := ⟨_, rfl⟩
  have hF : Off (fun _ => False) s.heap s.heap := Off.rf
  show W p l e R_X1_peak s m A below meth c s.heap [] 0 0 _ _
  rw [← eQ]
  obtain ⟨H, eH⟩ : ∃ H : Heap, H = s.heap := ⟨_, rfl⟩
  obtain ⟨locs, eLc⟩ : ∃ L : List Loc, L = [] := ⟨_, rfl⟩
  have lt_h_x0 := h_x0.lt
  have lt_h_x0r0 := h_x0r0.lt
  have lt_h_x0r1 := h_x0r1.lt
  have lt_h_x0r2 := h_x0r2.lt
  rw [← eH, ← eLc]
  have hF : Off (fun _ => False) s.heap H := by rw [eH]; exact hF
  rw [← eH] at h_x0
  rw [← eH] at h_x0r0
  rw [← eH] at h_x0r1
  rw [← eH] at h_x0r2
  have hS : St D s H locs := by rw [eH, eLc]; exact hS
  refine lv_iload_n hx hb dX1_peak_0 rfl (lv_at hl 1 rfl) ?_
  refine lv_iload_n hx hb dX1_peak_1 rfl (lv_at hl 2 rfl) ?_
  refine lv_iload_n hx hb dX1_peak_2 rfl (lv_at hl 3 rfl) ?_
  obtain ⟨o1, eo1, h⟩ := bind_step h
  refine r_cpv (r_runS (rest := []) (As := [.int x1, .int x2, .int x3]) hC 3 (m_X1_mustBeRow   x1 x2 x3 o1 eo1) q1390 q1391 q46 q1392 hd_X1_mustBeRow rfl ⟨Nat.le_of_ble_eq_true rfl, Nat.le_of_ble_eq_true rfl⟩ hS trivial hl.1 rfl (Nat.le_of_ble_eq_true rfl) dX1_peak_3 ⟨Nat.le_of_ble_eq_true rfl, Nat.le_of_ble_eq_true rfl⟩) ?_
  refine lv_iload_n hx hb dX1_peak_6 rfl (lv_at hl 2 rfl) ?_
  refine lv_istore (lv' := [(4, .int x2), (0, .ref x0), (1, .int x1), (2, .int x2), (3, .int x3)]) hx hb dX1_peak_7 hl (by decide) rfl (fun ls hl => ?_)
  refine lv_iload_n hx hb dX1_peak_9 rfl (lv_at hl 2 rfl) ?_
  refine lv_iload_n hx hb dX1_peak_10 rfl (lv_at hl 3 rfl) ?_
  obtain ⟨v2, ev2, h⟩ := ltd_step h
  refine r_i2d hx hb ev2 dX1_peak_11 ?_
  refine lv_ldc2d hx hb (v := 4593671619917905920) hown (hts _ q910) dX1_peak_12 ?_
  obtain ⟨v3, ev3, nv3, h⟩ := ck_step h
  refine r_dmul hx hb ev3 nv3 dX1_peak_15 ?_
  obtain ⟨o4, eo4, h⟩ := bind_step h
  refine r_cd (r_runS (rest := []) (As := [.int x1, .double v3]) hC 2 (m_X1_answer   x1 v3 o4 eo4) q1336 q1337 q46 q1338 hd_X1_answer rfl ⟨Nat.le_of_ble_eq_true rfl, Nat.le_of_ble_eq_true rfl⟩ hS trivial hl.1 rfl (Nat.le_of_ble_eq_true rfl) dX1_peak_16 ⟨Nat.le_of_ble_eq_true rfl, Nat.le_of_ble_eq_true rfl⟩) hS (fun b H locs hp hS hz => ?_)
  obtain ⟨eb_, hO⟩ := hp
  rw [eb_]
  have h_x0 := h_x0.ext hO
  have h_x0r0 := h_x0r0.ext hO
  have h_x0r1 := h_x0r1.ext hO
  have h_x0r2 := h_x0r2.ext hO
  have hF := hF.trans (hO.mono (fun _ _ z => z.elim))
  refine lv_dstore (lv' := [(5, .double o4), (4, .int x2), (0, .ref x0), (1, .int x1), (2, .int x2), (3, .int x3)]) hx hb dX1_peak_19 hl (by decide) rfl (fun ls hl => ?_)
  refine lv_iload_n hx hb dX1_peak_21 rfl (lv_at hl 4 rfl) ?_
  refine lv_iconst (v := 1) hx hb dX1_peak_22 (by decide) ?_
  obtain ⟨v5, ev5, h⟩ := lti_step h
  refine r_iadd hx hb ev5 dX1_peak_23 ?_
  refine lv_istore (lv' := [(7, .int v5), (5, .double o4), (4, .int x2), (0, .ref x0), (1, .int x1), (2, .int x2), (3, .int x3)]) hx hb dX1_peak_24 hl (by decide) rfl (fun ls hl => ?_)
  obtain ⟨F19, eF19, h⟩ := lt_step h
  obtain ⟨w20, ew20, h⟩ := bind_step h
  obtain ⟨CE, eCE⟩ : ∃ x : Nat, x = 6 + 102 := ⟨_, rfl⟩
  obtain ⟨SE, eSE⟩ : ∃ x : Nat, x = 85 + 1445 := ⟨_, rfl⟩
  have hCE : CE ≤ R_X1_peak.cells := (by rw [eCE]; exact Nat.le_of_ble_eq_true rfl)
  have hSE : SE ≤ R_X1_peak.slots := (by rw [eSE]; exact Nat.le_of_ble_eq_true rfl)
  have HL : ∀ (n : Nat) (v6 : Int32) (v7 : UInt64) (v8 : Int32) (w20 : Int32) (hk0 : lp n (fun x => F19 x.1 x.2.1 x.2.2) (v6, v7, v8) = some w20) (cl : Nat) (sl : Nat) (hcl : cl + 6 * n ≤ CE) (hsl : sl + 85 * n ≤ SE) (H : Heap) (locs : List Loc) (hS : St D s H locs) (hF : Off (fun _ => False) s.heap H) (h_x0 : ON D 0 x0 [.ref x0r0, .ref x0r1, .ref x0r2, .int x0f3, .int x0f4, .int x0f5, .int x0f6] H) (h_x0r0 : aD D x0r0 8 x0r0c H) (h_x0r1 : aD D x0r1 8 x0r1c H) (h_x0r2 : aZ D x0r2 8 x0r2c H) (ls : Array Slot) (hl : lv_has ls 10 [(1, .int x1), (2, .int x2), (3, .int x3), (4, .int v6), (5, .double v7), (7, .int v8)]) (K71 : ∀ (H : Heap) (locs : List Loc) (hS : St D s H locs) (hF : Off (fun _ => False) s.heap H) (h_x0 : ON D 0 x0 [.ref x0r0, .ref x0r1, .ref x0r2, .int x0f3, .int x0f4, .int x0f5, .int x0f6] H) (h_x0r0 : aD D x0r0 8 x0r0c H) (h_x0r1 : aD D x0r1 8 x0r1c H) (h_x0r2 : aZ D x0r2 8 x0r2c H) (ls : Array Slot) (hl : lv_has ls 10 [(4, .int w20)]), W p l e R_X1_peak s m A below meth c H locs CE SE Q (F0 m 71 ls [])), W p l e R_X1_peak s m A below meth c H locs cl sl Q (F0 m 26 ls []) := by
    intro n
    induction n with
    | zero => intro v6 v7 v8 w20 hk0 cl sl hcl hsl H locs hS hF h_x0 h_x0r0 h_x0r1 h_x0r2 ls hl K71; exact lp_zero hk0
    | succ n ih =>
      intro v6 v7 v8 w20 hk0 cl sl hcl hsl H locs hS hF h_x0 h_x0r0 h_x0r1 h_x0r2 ls hl K71
      obtain ⟨z21, hz, hk⟩ := lp_step hk0
      have h := (congrFun (congrFun (congrFun (eF19) v6) v7) v8).symm.trans hz
      have hcO : cl + 6 ≤ CE := al_out hcl
      have hcE : cl + 6 ≤ R_X1_peak.cells := Nat.le_trans hcO hCE
      have hcN : ∀ a, a ≤ 6 → cl + a + 6 * n ≤ CE := fun a ha => al_next hcl ha
      have hcN0 : cl + 6 * n ≤ CE := al_next hcl (Nat.zero_le _)
      have hsO : sl + 85 ≤ SE := al_out hsl
      have hsE : sl + 85 ≤ R_X1_peak.slots := Nat.le_trans hsO hSE
      have hsN : ∀ a, a ≤ 85 → sl + a + 85 * n ≤ SE := fun a ha => al_next hsl ha
      have hsN0 : sl + 85 * n ≤ SE := al_next hsl (Nat.zero_le _)
      clear hcl hsl
      refine lv_iload hx hb dX1_peak_26 (lv_at hl 5 rfl) ?_
      refine lv_iload_n hx hb dX1_peak_28 rfl (lv_at hl 1 rfl) ?_
      refine lv_iload_n hx hb dX1_peak_29 rfl (lv_at hl 2 rfl) ?_
      obtain ⟨v22, ev22, h⟩ := lti_step h
      refine r_iadd hx hb ev22 dX1_peak_30 ?_
      refine lv_icmp_ge (tgt := 71) hx hb dX1_peak_31 (by decide) (fun c23 => ?_) (fun c23 => ?_)
      · have h := it_pos h c23
        obtain rfl := Option.some.inj h
        obtain rfl := id hk
        refine W.widen (k := CE) (n := SE) (by omega) (by omega) ?_
        exact K71 H locs hS hF h_x0 h_x0r0 h_x0r1 h_x0r2 ls (lv_sub hl [3] rfl)
      · have h := it_neg h c23
        refine lv_iload_n hx hb dX1_peak_34 rfl (lv_at hl 0 rfl) ?_
        refine lv_iload hx hb dX1_peak_35 (lv_at hl 5 rfl) ?_
        obtain ⟨v24, ev24, h⟩ := ltd_step h
        refine r_i2d hx hb ev24 dX1_peak_37 ?_
        refine lv_ldc2d hx hb (v := 4593671619917905920) hown (hts _ q910) dX1_peak_38 ?_
        obtain ⟨v25, ev25, nv25, h⟩ := ck_step h
        refine r_dmul hx hb ev25 nv25 dX1_peak_41 ?_
        obtain ⟨o26, eo26, h⟩ := bind_step h
        refine r_cd (r_runS (rest := []) (As := [.int x1, .double v25]) hC 2 (m_X1_answer   x1 v25 o26 eo26) q1336 q1337 q46 q1338 hd_X1_answer rfl ⟨Nat.le_of_ble_eq_true rfl, Nat.le_of_ble_eq_true rfl⟩ hS trivial hl.1 rfl (Nat.le_of_ble_eq_true rfl) dX1_peak_42 ⟨by have := hcE; have := hsE; omega, by have := hcE; have := hsE; omega⟩) hS (fun b H locs hp hS hz => ?_)
        obtain ⟨eb_, hO⟩ := hp
        rw [eb_]
        have h_x0 := h_x0.ext hO
        have h_x0r0 := h_x0r0.ext hO
        have h_x0r1 := h_x0r1.ext hO
        have h_x0r2 := h_x0r2.ext hO
        have hF := hF.trans (hO.mono (fun _ _ z => z.elim))
        refine lv_dstore (lv' := [(8, .double o26), (1, .int x1), (2, .int x2), (3, .int x3), (4, .int v6), (5, .double v7), (7, .int v8)]) hx hb dX1_peak_45 hl (by decide) rfl (fun ls hl => ?_)
        refine lv_dload hx hb dX1_peak_47 (lv_at hl 0 rfl) ?_
        refine lv_dload hx hb dX1_peak_49 (lv_at hl 5 rfl) ?_
        obtain ⟨o27, eo27, h⟩ := bind_step h
        refine r_cp (r_runS (rest := []) (As := [.double o26, .double v7]) hC 2 (m_J10_compare   o26 v7 o27 eo27) q1294 q1295 q51 q1296 hd_J10_compare rfl ⟨Nat.le_of_ble_eq_true rfl, Nat.le_of_ble_eq_true rfl⟩ hS trivial hl.1 rfl (Nat.le_of_ble_eq_true rfl) dX1_peak_51 ⟨by have := hcE; have := hsE; omega, by have := hcE; have := hsE; omega⟩) ?_
        obtain ⟨K30, eK30, h⟩ := lt_step h
        have HK30 : ∀ (v28 : Int32) (v29 : UInt64) (h : K30 v28 v29 = some z21) (H : Heap) (locs : List Loc) (hS : St D s H locs) (hF : Off (fun _ => False) s.heap H) (h_x0 : ON D 0 x0 [.ref x0r0, .ref x0r1, .ref x0r2, .int x0f3, .int x0f4, .int x0f5, .int x0f6] H) (h_x0r0 : aD D x0r0 8 x0r0c H) (h_x0r1 : aD D x0r1 8 x0r1c H) (h_x0r2 : aZ D x0r2 8 x0r2c H) (ls : Array Slot) (hl : lv_has ls 10 [(1, .int x1), (2, .int x2), (3, .int x3), (4, .int v28), (5, .double v29), (7, .int v8)]), W p l e R_X1_peak s m A below meth c H locs (cl + 6) (sl + 85) Q (F0 m 65 ls []) := by
          intro v28 v29 h H locs hS hF h_x0 h_x0r0 h_x0r1 h_x0r2 ls hl
          subst eK30
          obtain ⟨v31, ev31, h⟩ := lti_step h
          refine lv_iinc (v := v31) (lv' := [(7, .int v31), (1, .int x1), (2, .int x2), (3, .int x3), (4, .int v28), (5, .double v29)]) hx hb dX1_peak_65 hl (k := 5) rfl (by rw [ev31]; rfl) (by decide) rfl (fun ls hl => ?_)
          refine lv_goto (tgt := 26) hx hb dX1_peak_68 (by decide) ?_
          obtain rfl := Option.some.inj h
          exact ih v28 v29 v31 w20 hk _ _ (hcN 6 (Nat.le_of_ble_eq_true rfl)) (hsN 85 (Nat.le_of_ble_eq_true rfl)) H locs hS hF h_x0 h_x0r0 h_x0r1 h_x0r2 ls (lv_sub hl [1, 2, 3, 4, 5, 0] rfl) K71
        clear eK30
        refine lv_if_le (tgt := 65) hx hb dX1_peak_54 (by decide) (fun c32 => ?_) (fun c32 => ?_)
        · have h := it_pos h c32
          exact HK30 v6 v7 h H locs hS hF h_x0 h_x0r0 h_x0r1 h_x0r2 ls (lv_sub hl [1, 2, 3, 4, 5, 6] rfl)
        · have h := it_neg h c32
          refine lv_dload hx hb dX1_peak_57 (lv_at hl 0 rfl) ?_
          refine lv_dstore (lv' := [(5, .double o26), (8, .double o26), (1, .int x1), (2, .int x2), (3, .int x3), (4, .int v6), (7, .int v8)]) hx hb dX1_peak_59 hl (by decide) rfl (fun ls hl => ?_)
          refine lv_iload hx hb dX1_peak_61 (lv_at hl 6 rfl) ?_
          refine lv_istore (lv' := [(4, .int v8), (5, .double o26), (8, .double o26), (1, .int x1), (2, .int x2), (3, .int x3), (7, .int v8)]) hx hb dX1_peak_63 hl (by decide) rfl (fun ls hl => ?_)
          exact HK30 v8 o26 h H locs hS hF h_x0 h_x0r0 h_x0r1 h_x0r2 ls (lv_sub hl [3, 4, 5, 0, 1, 6] rfl)
  clear eF19
  refine HL 17 x2 o4 v5 w20 ew20 _ _ (Nat.le_of_eq eCE.symm) (Nat.le_of_eq eSE.symm) H locs hS hF h_x0 h_x0r0 h_x0r1 h_x0r2 ls (lv_sub hl [4, 5, 6, 2, 1, 0] rfl) (fun  H locs hS hF h_x0 h_x0r0 h_x0r1 h_x0r2 ls hl => ?_)
  rw [eCE, eSE]
  refine lv_iload hx hb dX1_peak_71 (lv_at hl 0 rfl) ?_
  obtain rfl := Option.some.inj h
  rw [eQ]
  exact r_iret hx hb hr hlk hS (Nat.le_of_ble_eq_true rfl) (Nat.le_of_ble_eq_true rfl) dX1_peak_73 ⟨_, rfl, rfl, hF⟩

abbrev R_X1_crossings : Room := { frames := 10, cells := 108, slots := 1530, locals := 1433 }
noncomputable def f_X1_crossings (x0r0c : Nat → UInt64) (x0r1c : Nat → UInt64) (x0r2c : Nat → Int32) (x0f3 : Int32) (x0f4 : Int32) (x0f5 : Int32) (x0f6 : Int32) (x1 : Int32) (x2 : Int32) (x3 : Int32) : Option (Int32) :=
  Option.bind (f_X1_mustBeRow x1 x2 x3) fun o1 =>
  ltd (i2dF x2) fun v2 =>
  ck (dmulF v2 4593671619917905920) fun v3 =>
  Option.bind (f_X1_answer x1 v3) fun o4 =>
  Option.bind (f_X1_signOf o4) fun o5 =>
  lti (x2 + 1) fun v6 =>
  lt (fun (v7 : Int32) (v8 : Int32) (v9 : Int32) =>
  (show Option (Sum (Int32 × Int32 × Int32) (Int32)) from (
  lti (x2 + x3) fun v27 =>
  (if v27 ≤ v9 then
    some (.inr v7)
  else
    ltd (i2dF v9) fun v29 =>
    ck (dmulF v29 4593671619917905920) fun v30 =>
    Option.bind (f_X1_answer x1 v30) fun o31 =>
    Option.bind (f_X1_signOf o31) fun o32 =>
    lt (fun (v33 : Bool) =>
    Option.bind (f_X1_bit v33) fun o35 =>
    lti (v7 + o35) fun v36 =>
    lti (v9 + 1) fun v37 =>
    some (.inl (v36, o32, v37))
    ) fun K34 =>
    (if o32 = v8 then
      K34 false
    else
      K34 true
    )
  )
  ))
  ) fun F24 =>
  Option.bind (lp 17 (fun x => F24 x.1 x.2.1 x.2.2) (0, o5, v6)) fun w25 =>
  some w25
theorem hd_X1_crossings : Hd yX1_crossings 3 := by unfold Hd; decide +kernel
set_option maxHeartbeats 4000000 in
set_option maxRecDepth 100000 in
theorem m_X1_crossings {l : Launch} {D : DD} (x0 : Nat) (x0r0 : Nat) (x0r1 : Nat) (x0r2 : Nat)  (x0r0c : Nat → UInt64) (x0r1c : Nat → UInt64) (x0r2c : Nat → Int32) (x0f3 : Int32) (x0f4 : Int32) (x0f5 : Int32) (x0f6 : Int32) (x1 : Int32) (x2 : Int32) (x3 : Int32) (r : Int32) (h : f_X1_crossings x0r0c x0r1c x0r2c x0f3 x0f4 x0f5 x0f6 x1 x2 x3 = some r) : MT l D yX1_crossings cX1_crossings 8 (some .int) 10 1433 108 1530 [.ref x0, .int x1, .int x2, .int x3] (fun H => ON D 0 x0 [.ref x0r0, .ref x0r1, .ref x0r2, .int x0f3, .int x0f4, .int x0f5, .int x0f6] H ∧ aD D x0r0 8 x0r0c H ∧ aD D x0r1 8 x0r1c H ∧ aZ D x0r2 8 x0r2c H) (pI (fun H b H' => b = r ∧ Off (fun _ => False) H H')) := by
  refine MT.start (by decide +kernel) (Nat.le_of_ble_eq_true rfl) ?_
  intro p e s m below meth c ls hC hS hp hl
  obtain ⟨h_x0, h_x0r0, h_x0r1, h_x0r2⟩ := hp
  obtain ⟨hx, hb, hr, hlk, hml, hown, hts, hnm⟩ := id hC
  have hl : lv_has ls 8 [(0, .ref x0), (1, .int x1), (2, .int x2), (3, .int x3)] := hl
  unfold f_X1_crossings at h
  have hS0 := hS
  obtain ⟨A, eA⟩ : ∃ A : Array Value, A = [.ref x0, .int x1, .int x2, .int x3].toArray := ⟨_, rfl⟩
  rw [← eA] at hC hts ⊢
  obtain ⟨Q, eQ⟩ : ∃ Q : State → Prop, Q = MQ below (TQ D (pI (fun H b H' => b = r ∧ Off (fun _ => False) H H'))) A s 108 1530 (fun q => dB D ≤ q) := ⟨_, rfl⟩
  have hF : Off (fun _ => False) s.heap s.heap := Off.rf
  show W p l e R_X1_crossings s m A below meth c s.heap [] 0 0 _ _
  rw [← eQ]
  obtain ⟨H, eH⟩ : ∃ H : Heap, H = s.heap := ⟨_, rfl⟩
  obtain ⟨locs, eLc⟩ : ∃ L : List Loc, L = [] := ⟨_, rfl⟩
  have lt_h_x0 := h_x0.lt
  have lt_h_x0r0 := h_x0r0.lt
  have lt_h_x0r1 := h_x0r1.lt
  have lt_h_x0r2 := h_x0r2.lt
  rw [← eH, ← eLc]
  have hF : Off (fun _ => False) s.heap H := by rw [eH]; exact hF
  rw [← eH] at h_x0
  rw [← eH] at h_x0r0
  rw [← eH] at h_x0r1
  rw [← eH] at h_x0r2
  have hS : St D s H locs := by rw [eH, eLc]; exact hS
  refine lv_iload_n hx hb dX1_crossings_0 rfl (lv_at hl 1 rfl) ?_
  refine lv_iload_n hx hb dX1_crossings_1 rfl (lv_at hl 2 rfl) ?_
  refine lv_iload_n hx hb dX1_crossings_2 rfl (lv_at hl 3 rfl) ?_
  obtain ⟨o1, eo1, h⟩ := bind_step h
  refine r_cpv (r_runS (rest := []) (As := [.int x1, .int x2, .int x3]) hC 3 (m_X1_mustBeRow   x1 x2 x3 o1 eo1) q1390 q1391 q46 q1392 hd_X1_mustBeRow rfl ⟨Nat.le_of_ble_eq_true rfl, Nat.le_of_ble_eq_true rfl⟩ hS trivial hl.1 rfl (Nat.le_of_ble_eq_true rfl) dX1_crossings_3 ⟨Nat.le_of_ble_eq_true rfl, Nat.le_of_ble_eq_true rfl⟩) ?_
  refine lv_iconst (v := 0) hx hb dX1_crossings_6 (by decide) ?_
  refine lv_istore (lv' := [(4, .int 0), (0, .ref x0), (1, .int x1), (2, .int x2), (3, .int x3)]) hx hb dX1_crossings_7 hl (by decide) rfl (fun ls hl => ?_)
  refine lv_iload_n hx hb dX1_crossings_9 rfl (lv_at hl 2 rfl) ?_
  refine lv_iload_n hx hb dX1_crossings_10 rfl (lv_at hl 3 rfl) ?_
  obtain ⟨v2, ev2, h⟩ := ltd_step h
  refine r_i2d hx hb ev2 dX1_crossings_11 ?_
  refine lv_ldc2d hx hb (v := 4593671619917905920) hown (hts _ q910) dX1_crossings_12 ?_
  obtain ⟨v3, ev3, nv3, h⟩ := ck_step h
  refine r_dmul hx hb ev3 nv3 dX1_crossings_15 ?_
  obtain ⟨o4, eo4, h⟩ := bind_step h
  refine r_cd (r_runS (rest := []) (As := [.int x1, .double v3]) hC 2 (m_X1_answer   x1 v3 o4 eo4) q1336 q1337 q46 q1338 hd_X1_answer rfl ⟨Nat.le_of_ble_eq_true rfl, Nat.le_of_ble_eq_true rfl⟩ hS trivial hl.1 rfl (Nat.le_of_ble_eq_true rfl) dX1_crossings_16 ⟨Nat.le_of_ble_eq_true rfl, Nat.le_of_ble_eq_true rfl⟩) hS (fun b H locs hp hS hz => ?_)
  obtain ⟨eb_, hO⟩ := hp
  rw [eb_]
  have h_x0 := h_x0.ext hO
  have h_x0r0 := h_x0r0.ext hO
  have h_x0r1 := h_x0r1.ext hO
  have h_x0r2 := h_x0r2.ext hO
  have hF := hF.trans (hO.mono (fun _ _ z => z.elim))
  obtain ⟨o5, eo5, h⟩ := bind_step h
  refine r_cp (r_runS (rest := []) (As := [.double o4]) hC 1 (m_X1_signOf   o4 o5 eo5) q386 q387 q46 q388 hd_X1_signOf rfl ⟨Nat.le_of_ble_eq_true rfl, Nat.le_of_ble_eq_true rfl⟩ hS trivial hl.1 rfl (Nat.le_of_ble_eq_true rfl) dX1_crossings_19 ⟨Nat.le_of_ble_eq_true rfl, Nat.le_of_ble_eq_true rfl⟩) ?_
  refine lv_istore (lv' := [(5, .int o5), (4, .int 0), (0, .ref x0), (1, .int x1), (2, .int x2), (3, .int x3)]) hx hb dX1_crossings_22 hl (by decide) rfl (fun ls hl => ?_)
  refine lv_iload_n hx hb dX1_crossings_24 rfl (lv_at hl 4 rfl) ?_
  refine lv_iconst (v := 1) hx hb dX1_crossings_25 (by decide) ?_
  obtain ⟨v6, ev6, h⟩ := lti_step h
  refine r_iadd hx hb ev6 dX1_crossings_26 ?_
  refine lv_istore (lv' := [(6, .int v6), (5, .int o5), (4, .int 0), (0, .ref x0), (1, .int x1), (2, .int x2), (3, .int x3)]) hx hb dX1_crossings_27 hl (by decide) rfl (fun ls hl => ?_)
  obtain ⟨F24, eF24, h⟩ := lt_step h
  obtain ⟨w25, ew25, h⟩ := bind_step h
  obtain ⟨CE, eCE⟩ : ∃ x : Nat, x = 6 + 102 := ⟨_, rfl⟩
  obtain ⟨SE, eSE⟩ : ∃ x : Nat, x = 85 + 1445 := ⟨_, rfl⟩
  have hCE : CE ≤ R_X1_crossings.cells := (by rw [eCE]; exact Nat.le_of_ble_eq_true rfl)
  have hSE : SE ≤ R_X1_crossings.slots := (by rw [eSE]; exact Nat.le_of_ble_eq_true rfl)
  have HL : ∀ (n : Nat) (v7 : Int32) (v8 : Int32) (v9 : Int32) (w25 : Int32) (hk0 : lp n (fun x => F24 x.1 x.2.1 x.2.2) (v7, v8, v9) = some w25) (cl : Nat) (sl : Nat) (hcl : cl + 6 * n ≤ CE) (hsl : sl + 85 * n ≤ SE) (H : Heap) (locs : List Loc) (hS : St D s H locs) (hF : Off (fun _ => False) s.heap H) (h_x0 : ON D 0 x0 [.ref x0r0, .ref x0r1, .ref x0r2, .int x0f3, .int x0f4, .int x0f5, .int x0f6] H) (h_x0r0 : aD D x0r0 8 x0r0c H) (h_x0r1 : aD D x0r1 8 x0r1c H) (h_x0r2 : aZ D x0r2 8 x0r2c H) (ls : Array Slot) (hl : lv_has ls 8 [(1, .int x1), (2, .int x2), (3, .int x3), (4, .int v7), (5, .int v8), (6, .int v9)]) (K83 : ∀ (H : Heap) (locs : List Loc) (hS : St D s H locs) (hF : Off (fun _ => False) s.heap H) (h_x0 : ON D 0 x0 [.ref x0r0, .ref x0r1, .ref x0r2, .int x0f3, .int x0f4, .int x0f5, .int x0f6] H) (h_x0r0 : aD D x0r0 8 x0r0c H) (h_x0r1 : aD D x0r1 8 x0r1c H) (h_x0r2 : aZ D x0r2 8 x0r2c H) (ls : Array Slot) (hl : lv_has ls 8 [(4, .int w25)]), W p l e R_X1_crossings s m A below meth c H locs CE SE Q (F0 m 83 ls [])), W p l e R_X1_crossings s m A below meth c H locs cl sl Q (F0 m 29 ls []) := by
    intro n
    induction n with
    | zero => intro v7 v8 v9 w25 hk0 cl sl hcl hsl H locs hS hF h_x0 h_x0r0 h_x0r1 h_x0r2 ls hl K83; exact lp_zero hk0
    | succ n ih =>
      intro v7 v8 v9 w25 hk0 cl sl hcl hsl H locs hS hF h_x0 h_x0r0 h_x0r1 h_x0r2 ls hl K83
      obtain ⟨z26, hz, hk⟩ := lp_step hk0
      have h := (congrFun (congrFun (congrFun (eF24) v7) v8) v9).symm.trans hz
      have hcO : cl + 6 ≤ CE := al_out hcl
      have hcE : cl + 6 ≤ R_X1_crossings.cells := Nat.le_trans hcO hCE
      have hcN : ∀ a, a ≤ 6 → cl + a + 6 * n ≤ CE := fun a ha => al_next hcl ha
      have hcN0 : cl + 6 * n ≤ CE := al_next hcl (Nat.zero_le _)
      have hsO : sl + 85 ≤ SE := al_out hsl
      have hsE : sl + 85 ≤ R_X1_crossings.slots := Nat.le_trans hsO hSE
      have hsN : ∀ a, a ≤ 85 → sl + a + 85 * n ≤ SE := fun a ha => al_next hsl ha
      have hsN0 : sl + 85 * n ≤ SE := al_next hsl (Nat.zero_le _)
      clear hcl hsl
      refine lv_iload hx hb dX1_crossings_29 (lv_at hl 5 rfl) ?_
      refine lv_iload_n hx hb dX1_crossings_31 rfl (lv_at hl 1 rfl) ?_
      refine lv_iload_n hx hb dX1_crossings_32 rfl (lv_at hl 2 rfl) ?_
      obtain ⟨v27, ev27, h⟩ := lti_step h
      refine r_iadd hx hb ev27 dX1_crossings_33 ?_
      refine lv_icmp_ge (tgt := 83) hx hb dX1_crossings_34 (by decide) (fun c28 => ?_) (fun c28 => ?_)
      · have h := it_pos h c28
        obtain rfl := Option.some.inj h
        obtain rfl := id hk
        refine W.widen (k := CE) (n := SE) (by omega) (by omega) ?_
        exact K83 H locs hS hF h_x0 h_x0r0 h_x0r1 h_x0r2 ls (lv_sub hl [3] rfl)
      · have h := it_neg h c28
        refine lv_iload_n hx hb dX1_crossings_37 rfl (lv_at hl 0 rfl) ?_
        refine lv_iload hx hb dX1_crossings_38 (lv_at hl 5 rfl) ?_
        obtain ⟨v29, ev29, h⟩ := ltd_step h
        refine r_i2d hx hb ev29 dX1_crossings_40 ?_
        refine lv_ldc2d hx hb (v := 4593671619917905920) hown (hts _ q910) dX1_crossings_41 ?_
        obtain ⟨v30, ev30, nv30, h⟩ := ck_step h
        refine r_dmul hx hb ev30 nv30 dX1_crossings_44 ?_
        obtain ⟨o31, eo31, h⟩ := bind_step h
        refine r_cd (r_runS (rest := []) (As := [.int x1, .double v30]) hC 2 (m_X1_answer   x1 v30 o31 eo31) q1336 q1337 q46 q1338 hd_X1_answer rfl ⟨Nat.le_of_ble_eq_true rfl, Nat.le_of_ble_eq_true rfl⟩ hS trivial hl.1 rfl (Nat.le_of_ble_eq_true rfl) dX1_crossings_45 ⟨by have := hcE; have := hsE; omega, by have := hcE; have := hsE; omega⟩) hS (fun b H locs hp hS hz => ?_)
        obtain ⟨eb_, hO⟩ := hp
        rw [eb_]
        have h_x0 := h_x0.ext hO
        have h_x0r0 := h_x0r0.ext hO
        have h_x0r1 := h_x0r1.ext hO
        have h_x0r2 := h_x0r2.ext hO
        have hF := hF.trans (hO.mono (fun _ _ z => z.elim))
        obtain ⟨o32, eo32, h⟩ := bind_step h
        refine r_cp (r_runS (rest := []) (As := [.double o31]) hC 1 (m_X1_signOf   o31 o32 eo32) q386 q387 q46 q388 hd_X1_signOf rfl ⟨Nat.le_of_ble_eq_true rfl, Nat.le_of_ble_eq_true rfl⟩ hS trivial hl.1 rfl (Nat.le_of_ble_eq_true rfl) dX1_crossings_48 ⟨by have := hcE; have := hsE; omega, by have := hcE; have := hsE; omega⟩) ?_
        refine lv_istore (lv' := [(7, .int o32), (1, .int x1), (2, .int x2), (3, .int x3), (4, .int v7), (5, .int v8), (6, .int v9)]) hx hb dX1_crossings_51 hl (by decide) rfl (fun ls hl => ?_)
        refine lv_iload hx hb dX1_crossings_53 (lv_at hl 4 rfl) ?_
        refine lv_iload hx hb dX1_crossings_55 (lv_at hl 0 rfl) ?_
        refine lv_iload hx hb dX1_crossings_57 (lv_at hl 5 rfl) ?_
        obtain ⟨K34, eK34, h⟩ := lt_step h
        have HK34 : ∀ (v33 : Bool) (h : K34 v33 = some z26) (H : Heap) (locs : List Loc) (hS : St D s H locs) (hF : Off (fun _ => False) s.heap H) (h_x0 : ON D 0 x0 [.ref x0r0, .ref x0r1, .ref x0r2, .int x0f3, .int x0f4, .int x0f5, .int x0f6] H) (h_x0r0 : aD D x0r0 8 x0r0c H) (h_x0r1 : aD D x0r1 8 x0r1c H) (h_x0r2 : aZ D x0r2 8 x0r2c H) (ls : Array Slot) (hl : lv_has ls 8 [(1, .int x1), (2, .int x2), (3, .int x3), (6, .int v9), (7, .int o32)]), W p l e R_X1_crossings s m A below meth c H locs (cl + 6) (sl + 85) Q (F0 m 67 ls [.int (bI v33), .int v7]) := by
          intro v33 h H locs hS hF h_x0 h_x0r0 h_x0r1 h_x0r2 ls hl
          subst eK34
          obtain ⟨o35, eo35, h⟩ := bind_step h
          refine r_cp (r_runS (rest := [.int v7]) (As := [.int (bI v33)]) hC 1 (m_X1_bit   v33 o35 eo35) q389 q390 q46 q391 hd_X1_bit rfl ⟨Nat.le_of_ble_eq_true rfl, Nat.le_of_ble_eq_true rfl⟩ hS trivial hl.1 rfl (Nat.le_of_ble_eq_true rfl) dX1_crossings_67 ⟨by have := hcE; have := hsE; omega, by have := hcE; have := hsE; omega⟩) ?_
          obtain ⟨v36, ev36, h⟩ := lti_step h
          refine r_iadd hx hb ev36 dX1_crossings_70 ?_
          refine lv_istore (lv' := [(4, .int v36), (1, .int x1), (2, .int x2), (3, .int x3), (6, .int v9), (7, .int o32)]) hx hb dX1_crossings_71 hl (by decide) rfl (fun ls hl => ?_)
          refine lv_iload hx hb dX1_crossings_73 (lv_at hl 5 rfl) ?_
          refine lv_istore (lv' := [(5, .int o32), (4, .int v36), (1, .int x1), (2, .int x2), (3, .int x3), (6, .int v9), (7, .int o32)]) hx hb dX1_crossings_75 hl (by decide) rfl (fun ls hl => ?_)
          obtain ⟨v37, ev37, h⟩ := lti_step h
          refine lv_iinc (v := v37) (lv' := [(6, .int v37), (5, .int o32), (4, .int v36), (1, .int x1), (2, .int x2), (3, .int x3), (7, .int o32)]) hx hb dX1_crossings_77 hl (k := 5) rfl (by rw [ev37]; rfl) (by decide) rfl (fun ls hl => ?_)
          refine lv_goto (tgt := 29) hx hb dX1_crossings_80 (by decide) ?_
          obtain rfl := Option.some.inj h
          exact ih v36 o32 v37 w25 hk _ _ (hcN 6 (Nat.le_of_ble_eq_true rfl)) (hsN 85 (Nat.le_of_ble_eq_true rfl)) H locs hS hF h_x0 h_x0r0 h_x0r1 h_x0r2 ls (lv_sub hl [3, 4, 5, 2, 1, 0] rfl) K83
        clear eK34
        refine lv_icmp_eq (tgt := 66) hx hb dX1_crossings_59 (by decide) (fun c38 => ?_) (fun c38 => ?_)
        · have h := it_pos h c38
          refine lv_iconst (v := 0) hx hb dX1_crossings_66 (by decide) ?_
          exact HK34 false h H locs hS hF h_x0 h_x0r0 h_x0r1 h_x0r2 ls (lv_sub hl [1, 2, 3, 6, 0] rfl)
        · have h := it_neg h c38
          refine lv_iconst (v := 1) hx hb dX1_crossings_62 (by decide) ?_
          refine lv_goto (tgt := 67) hx hb dX1_crossings_63 (by decide) ?_
          exact HK34 true h H locs hS hF h_x0 h_x0r0 h_x0r1 h_x0r2 ls (lv_sub hl [1, 2, 3, 6, 0] rfl)
  clear eF24
  refine HL 17 0 o5 v6 w25 ew25 _ _ (Nat.le_of_eq eCE.symm) (Nat.le_of_eq eSE.symm) H locs hS hF h_x0 h_x0r0 h_x0r1 h_x0r2 ls (lv_sub hl [4, 5, 6, 2, 1, 0] rfl) (fun  H locs hS hF h_x0 h_x0r0 h_x0r1 h_x0r2 ls hl => ?_)
  rw [eCE, eSE]
  refine lv_iload hx hb dX1_crossings_83 (lv_at hl 0 rfl) ?_
  obtain rfl := Option.some.inj h
  rw [eQ]
  exact r_iret hx hb hr hlk hS (Nat.le_of_ble_eq_true rfl) (Nat.le_of_ble_eq_true rfl) dX1_crossings_85 ⟨_, rfl, rfl, hF⟩

abbrev R_X1_isAnswer : Room := { frames := 10, cells := 8, slots := 87, locals := 1433 }
noncomputable def f_X1_isAnswer (x0r0c : Nat → UInt64) (x0r1c : Nat → UInt64) (x0r2c : Nat → Int32) (x0f3 : Int32) (x0f4 : Int32) (x0f5 : Int32) (x0f6 : Int32) (x1 : Int32) (x2 : Int32) (x3 : Int32) : Option (Bool) :=
  Option.bind (f_X1_heightAt x0r0c x0r1c x0r2c x0f3 x0f4 x0f5 x0f6 x1) fun o1 =>
  Option.bind (f_X1_angleAt x0r0c x0r1c x0r2c x0f3 x0f4 x0f5 x0f6 x3) fun o2 =>
  Option.bind (f_X1_isIn x2 0 2) fun o3 =>
  Option.bind (f_X1_mustFit o3) fun o4 =>
  Option.bind (f_J10_valueOf o1) fun o5 =>
  Option.bind (f_X1_answer x2 o2) fun o7 =>
  Option.bind (f_J10_valueOf o7) fun o8 =>
  Option.bind (f_X1_isSameBy o5 o8 0) fun o10 =>
  some o10
theorem hd_X1_isAnswer : Hd yX1_isAnswer 3 := by unfold Hd; decide +kernel
set_option maxHeartbeats 4000000 in
set_option maxRecDepth 100000 in
theorem m_X1_isAnswer {l : Launch} {D : DD} (x0 : Nat) (x0r0 : Nat) (x0r1 : Nat) (x0r2 : Nat)  (x0r0c : Nat → UInt64) (x0r1c : Nat → UInt64) (x0r2c : Nat → Int32) (x0f3 : Int32) (x0f4 : Int32) (x0f5 : Int32) (x0f6 : Int32) (x1 : Int32) (x2 : Int32) (x3 : Int32) (r : Bool) (h : f_X1_isAnswer x0r0c x0r1c x0r2c x0f3 x0f4 x0f5 x0f6 x1 x2 x3 = some r) : MT l D yX1_isAnswer cX1_isAnswer 8 (some .boolean) 10 1433 8 87 [.ref x0, .int x1, .int x2, .int x3] (fun H => ON D 0 x0 [.ref x0r0, .ref x0r1, .ref x0r2, .int x0f3, .int x0f4, .int x0f5, .int x0f6] H ∧ aD D x0r0 8 x0r0c H ∧ aD D x0r1 8 x0r1c H ∧ aZ D x0r2 8 x0r2c H) (pZ (fun H b H' => b = r ∧ Off (fun _ => False) H H')) := by
  refine MT.start (by decide +kernel) (Nat.le_of_ble_eq_true rfl) ?_
  intro p e s m below meth c ls hC hS hp hl
  obtain ⟨h_x0, h_x0r0, h_x0r1, h_x0r2⟩ := hp
  obtain ⟨hx, hb, hr, hlk, hml, hown, hts, hnm⟩ := id hC
  have hl : lv_has ls 8 [(0, .ref x0), (1, .int x1), (2, .int x2), (3, .int x3)] := hl
  unfold f_X1_isAnswer at h
  have hS0 := hS
  obtain ⟨A, eA⟩ : ∃ A : Array Value, A = [.ref x0, .int x1, .int x2, .int x3].toArray := ⟨_, rfl⟩
  rw [← eA] at hC hts ⊢
  obtain ⟨Q, eQ⟩ : ∃ Q : State → Prop, Q = MQ below (TQ D (pZ (fun H b H' => b = r ∧ Off (fun _ => False) H H'))) A s 8 87 (fun q => dB D ≤ q) := ⟨_, rfl⟩
  have hF : Off (fun _ => False) s.heap s.heap := Off.rf
  show W p l e R_X1_isAnswer s m A below meth c s.heap [] 0 0 _ _
  rw [← eQ]
  obtain ⟨H, eH⟩ : ∃ H : Heap, H = s.heap := ⟨_, rfl⟩
  obtain ⟨locs, eLc⟩ : ∃ L : List Loc, L = [] := ⟨_, rfl⟩
  have lt_h_x0 := h_x0.lt
  have lt_h_x0r0 := h_x0r0.lt
  have lt_h_x0r1 := h_x0r1.lt
  have lt_h_x0r2 := h_x0r2.lt
  rw [← eH, ← eLc]
  have hF : Off (fun _ => False) s.heap H := by rw [eH]; exact hF
  rw [← eH] at h_x0
  rw [← eH] at h_x0r0
  rw [← eH] at h_x0r1
  rw [← eH] at h_x0r2
  have hS : St D s H locs := by rw [eH, eLc]; exact hS
  refine lv_aload_n hx hb dX1_isAnswer_0 rfl (lv_at hl 0 rfl) ?_
  refine lv_iload_n hx hb dX1_isAnswer_1 rfl (lv_at hl 1 rfl) ?_
  obtain ⟨o1, eo1, h⟩ := bind_step h
  refine r_cp (r_runV (rest := []) (As := [.int x1]) hC 1 (m_X1_heightAt x0 x0r0 x0r1 x0r2  x0r0c x0r1c x0r2c x0f3 x0f4 x0f5 x0f6 x1 o1 eo1) q1202 q1204 qs13 q46 q1205 (OA.recv hS h_x0.OA (C := RX1) rfl) hd_X1_heightAt rfl ⟨Nat.le_of_ble_eq_true rfl, Nat.le_of_ble_eq_true rfl⟩ hS ⟨h_x0, h_x0r0, h_x0r1, h_x0r2⟩ hl.1 rfl (Nat.le_of_ble_eq_true rfl) dX1_isAnswer_2 ⟨Nat.le_of_ble_eq_true rfl, Nat.le_of_ble_eq_true rfl⟩) ?_
  refine lv_dstore (lv' := [(4, .double o1), (0, .ref x0), (1, .int x1), (2, .int x2), (3, .int x3)]) hx hb dX1_isAnswer_5 hl (by decide) rfl (fun ls hl => ?_)
  refine lv_aload_n hx hb dX1_isAnswer_7 rfl (lv_at hl 1 rfl) ?_
  refine lv_iload_n hx hb dX1_isAnswer_8 rfl (lv_at hl 4 rfl) ?_
  obtain ⟨o2, eo2, h⟩ := bind_step h
  refine r_cp (r_runV (rest := []) (As := [.int x3]) hC 1 (m_X1_angleAt x0 x0r0 x0r1 x0r2  x0r0c x0r1c x0r2c x0f3 x0f4 x0f5 x0f6 x3 o2 eo2) q952 q954 qs11 q46 q955 (OA.recv hS h_x0.OA (C := RX1) rfl) hd_X1_angleAt rfl ⟨Nat.le_of_ble_eq_true rfl, Nat.le_of_ble_eq_true rfl⟩ hS ⟨h_x0, h_x0r0, h_x0r1, h_x0r2⟩ hl.1 rfl (Nat.le_of_ble_eq_true rfl) dX1_isAnswer_9 ⟨Nat.le_of_ble_eq_true rfl, Nat.le_of_ble_eq_true rfl⟩) ?_
  refine lv_dstore (lv' := [(6, .double o2), (4, .double o1), (0, .ref x0), (1, .int x1), (2, .int x2), (3, .int x3)]) hx hb dX1_isAnswer_12 hl (by decide) rfl (fun ls hl => ?_)
  refine lv_iload_n hx hb dX1_isAnswer_14 rfl (lv_at hl 4 rfl) ?_
  refine lv_iconst (v := 0) hx hb dX1_isAnswer_15 (by decide) ?_
  refine lv_iconst (v := 2) hx hb dX1_isAnswer_16 (by decide) ?_
  obtain ⟨o3, eo3, h⟩ := bind_step h
  refine r_cp (r_runS (rest := []) (As := [.int x2, .int 0, .int 2]) hC 3 (m_X1_isIn   x2 0 2 o3 eo3) q395 q396 q46 q397 hd_X1_isIn rfl ⟨Nat.le_of_ble_eq_true rfl, Nat.le_of_ble_eq_true rfl⟩ hS trivial hl.1 rfl (Nat.le_of_ble_eq_true rfl) dX1_isAnswer_17 ⟨Nat.le_of_ble_eq_true rfl, Nat.le_of_ble_eq_true rfl⟩) ?_
  obtain ⟨o4, eo4, h⟩ := bind_step h
  refine r_cpv (r_runS (rest := []) (As := [.int (bI o3)]) hC 1 (m_X1_mustFit   o3 o4 eo4) q1230 q1231 q46 q1232 hd_X1_mustFit rfl ⟨Nat.le_of_ble_eq_true rfl, Nat.le_of_ble_eq_true rfl⟩ hS trivial hl.1 rfl (Nat.le_of_ble_eq_true rfl) dX1_isAnswer_20 ⟨Nat.le_of_ble_eq_true rfl, Nat.le_of_ble_eq_true rfl⟩) ?_
  refine lv_dload hx hb dX1_isAnswer_23 (lv_at hl 1 rfl) ?_
  obtain ⟨o5, eo5, h⟩ := bind_step h
  refine r_cr (r_runS (rest := []) (As := [.double o1]) hC 1 (m_J10_valueOf   o1 o5 eo5) q1301 q1302 q51 q1303 hd_J10_valueOf rfl ⟨Nat.le_of_ble_eq_true rfl, Nat.le_of_ble_eq_true rfl⟩ hS trivial hl.1 rfl (Nat.le_of_ble_eq_true rfl) dX1_isAnswer_25 ⟨Nat.le_of_ble_eq_true rfl, Nat.le_of_ble_eq_true rfl⟩) hS (fun ad6 H locs hp hS hz => ?_)
  obtain ⟨had6, frad6, hO⟩ := hp
  have ne_h_x0_had6 : x0 ≠ ad6 := Nat.ne_of_lt (Nat.lt_of_lt_of_le h_x0.lt frad6)
  have ne_h_x0r0_had6 : x0r0 ≠ ad6 := Nat.ne_of_lt (Nat.lt_of_lt_of_le h_x0r0.lt frad6)
  have ne_h_x0r1_had6 : x0r1 ≠ ad6 := Nat.ne_of_lt (Nat.lt_of_lt_of_le h_x0r1.lt frad6)
  have ne_h_x0r2_had6 : x0r2 ≠ ad6 := Nat.ne_of_lt (Nat.lt_of_lt_of_le h_x0r2.lt frad6)
  have gad6 : s.heap.size ≤ ad6 := Nat.le_trans hF.1 frad6
  have hB_had6 : dB D ≤ ad6 := by have := hS0.1.2.2.1; omega
  have h_x0 := h_x0.ext hO
  have h_x0r0 := h_x0r0.ext hO
  have h_x0r1 := h_x0r1.ext hO
  have h_x0r2 := h_x0r2.ext hO
  have hF := hF.trans (hO.mono (fun _ _ z => z.elim))
  refine lv_iload_n hx hb dX1_isAnswer_28 rfl (lv_at hl 4 rfl) ?_
  refine lv_dload hx hb dX1_isAnswer_29 (lv_at hl 0 rfl) ?_
  obtain ⟨o7, eo7, h⟩ := bind_step h
  refine r_cd (r_runS (rest := [.ref ad6]) (As := [.int x2, .double o2]) hC 2 (m_X1_answer   x2 o2 o7 eo7) q1336 q1337 q46 q1338 hd_X1_answer rfl ⟨Nat.le_of_ble_eq_true rfl, Nat.le_of_ble_eq_true rfl⟩ hS trivial hl.1 rfl (Nat.le_of_ble_eq_true rfl) dX1_isAnswer_31 ⟨Nat.le_of_ble_eq_true rfl, Nat.le_of_ble_eq_true rfl⟩) hS (fun b H locs hp hS hz => ?_)
  obtain ⟨eb_, hO⟩ := hp
  rw [eb_]
  have h_x0 := h_x0.ext hO
  have h_x0r0 := h_x0r0.ext hO
  have h_x0r1 := h_x0r1.ext hO
  have h_x0r2 := h_x0r2.ext hO
  have had6 := had6.ext hO
  have hF := hF.trans (hO.mono (fun _ _ z => z.elim))
  obtain ⟨o8, eo8, h⟩ := bind_step h
  refine r_cr (r_runS (rest := [.ref ad6]) (As := [.double o7]) hC 1 (m_J10_valueOf   o7 o8 eo8) q1301 q1302 q51 q1303 hd_J10_valueOf rfl ⟨Nat.le_of_ble_eq_true rfl, Nat.le_of_ble_eq_true rfl⟩ hS trivial hl.1 rfl (Nat.le_of_ble_eq_true rfl) dX1_isAnswer_34 ⟨Nat.le_of_ble_eq_true rfl, Nat.le_of_ble_eq_true rfl⟩) hS (fun ad9 H locs hp hS hz => ?_)
  obtain ⟨had9, frad9, hO⟩ := hp
  have ne_h_x0_had9 : x0 ≠ ad9 := Nat.ne_of_lt (Nat.lt_of_lt_of_le h_x0.lt frad9)
  have ne_h_x0r0_had9 : x0r0 ≠ ad9 := Nat.ne_of_lt (Nat.lt_of_lt_of_le h_x0r0.lt frad9)
  have ne_h_x0r1_had9 : x0r1 ≠ ad9 := Nat.ne_of_lt (Nat.lt_of_lt_of_le h_x0r1.lt frad9)
  have ne_h_x0r2_had9 : x0r2 ≠ ad9 := Nat.ne_of_lt (Nat.lt_of_lt_of_le h_x0r2.lt frad9)
  have ne_had6_had9 : ad6 ≠ ad9 := Nat.ne_of_lt (Nat.lt_of_lt_of_le had6.lt frad9)
  have gad9 : s.heap.size ≤ ad9 := Nat.le_trans hF.1 frad9
  have hB_had9 : dB D ≤ ad9 := by have := hS0.1.2.2.1; omega
  have h_x0 := h_x0.ext hO
  have h_x0r0 := h_x0r0.ext hO
  have h_x0r1 := h_x0r1.ext hO
  have h_x0r2 := h_x0r2.ext hO
  have had6 := had6.ext hO
  have hF := hF.trans (hO.mono (fun _ _ z => z.elim))
  refine lv_iconst (v := 0) hx hb dX1_isAnswer_37 (by decide) ?_
  obtain ⟨o10, eo10, h⟩ := bind_step h
  refine r_cp (r_runS (rest := []) (As := [.ref ad6, .ref ad9, .int 0]) hC 3 (m_X1_isSameBy ad6 ad9  o5 o8 0 o10 eo10) q1423 q1424 q46 q1425 hd_X1_isSameBy rfl ⟨Nat.le_of_ble_eq_true rfl, Nat.le_of_ble_eq_true rfl⟩ hS ⟨had6, had9, ne_had6_had9⟩ hl.1 rfl (Nat.le_of_ble_eq_true rfl) dX1_isAnswer_38 ⟨Nat.le_of_ble_eq_true rfl, Nat.le_of_ble_eq_true rfl⟩) ?_
  obtain rfl := Option.some.inj h
  rw [eQ]
  exact r_zret hx hb hr hlk hS (narB _) (Nat.le_of_ble_eq_true rfl) (Nat.le_of_ble_eq_true rfl) dX1_isAnswer_41 ⟨_, rfl, rfl, hF⟩

abbrev R_X1_cosine : Room := { frames := 9, cells := 6, slots := 85, locals := 1411 }
noncomputable def f_X1_cosine (x0r0c : Nat → UInt64) (x0r1c : Nat → UInt64) (x0r2c : Nat → Int32) (x0f3 : Int32) (x0f4 : Int32) (x0f5 : Int32) (x0f6 : Int32) (x1 : Int32) (x2 : Int32) : Option (Int32 × Int32 × (Nat → UInt64)) :=
  Option.bind (f_X1_angleAt x0r0c x0r1c x0r2c x0f3 x0f4 x0f5 x0f6 x1) fun o1 =>
  Option.bind (f_J6_cos o1) fun o2 =>
  Option.bind (f_X1_heightPut x0r0c x0r1c x0r2c x0f3 x0f4 x0f5 x0f6 x2 o2) fun o3 =>
  some (o3.1, o3.2.1, o3.2.2)
theorem hd_X1_cosine : Hd yX1_cosine 2 := by unfold Hd; decide +kernel
set_option maxHeartbeats 4000000 in
set_option maxRecDepth 100000 in
theorem m_X1_cosine {l : Launch} {D : DD} (x0 : Nat) (x0r0 : Nat) (x0r1 : Nat) (x0r2 : Nat)  (x0r0c : Nat → UInt64) (x0r1c : Nat → UInt64) (x0r2c : Nat → Int32) (x0f3 : Int32) (x0f4 : Int32) (x0f5 : Int32) (x0f6 : Int32) (x1 : Int32) (x2 : Int32) (r : Int32 × Int32 × (Nat → UInt64)) (h : f_X1_cosine x0r0c x0r1c x0r2c x0f3 x0f4 x0f5 x0f6 x1 x2 = some r) : MT l D yX1_cosine cX1_cosine 3 (some .int) 9 1411 6 85 [.ref x0, .int x1, .int x2] (fun H => ON D 0 x0 [.ref x0r0, .ref x0r1, .ref x0r2, .int x0f3, .int x0f4, .int x0f5, .int x0f6] H ∧ dB D ≤ x0 ∧ aD D x0r0 8 x0r0c H ∧ aD D x0r1 8 x0r1c H ∧ dB D ≤ x0r1 ∧ aZ D x0r2 8 x0r2c H ∧ x0 ≠ x0r0 ∧ x0 ≠ x0r1 ∧ x0 ≠ x0r2 ∧ x0r0 ≠ x0r1 ∧ x0r1 ≠ x0r2) (pI (fun H b H' => b = r.1 ∧ ON D 0 x0 [.ref x0r0, .ref x0r1, .ref x0r2, .int x0f3, .int r.2.1, .int x0f5, .int x0f6] H' ∧ aD D x0r1 8 r.2.2 H' ∧ Off (fun a => a = x0 ∨ a = x0r1) H H')) := by
  refine MT.start (by decide +kernel) (Nat.le_of_ble_eq_true rfl) ?_
  intro p e s m below meth c ls hC hS hp hl
  obtain ⟨h_x0, hB_h_x0, h_x0r0, h_x0r1, hB_h_x0r1, h_x0r2, ne_x0_x0r0, ne_x0_x0r1, ne_x0_x0r2, ne_x0r0_x0r1, ne_x0r1_x0r2⟩ := hp
  obtain ⟨hx, hb, hr, hlk, hml, hown, hts, hnm⟩ := id hC
  have hl : lv_has ls 3 [(0, .ref x0), (1, .int x1), (2, .int x2)] := hl
  unfold f_X1_cosine at h
  have hS0 := hS
  obtain ⟨A, eA⟩ : ∃ A : Array Value, A = [.ref x0, .int x1, .int x2].toArray := ⟨_, rfl⟩
  rw [← eA] at hC hts ⊢
  obtain ⟨Q, eQ⟩ : ∃ Q : State → Prop, Q = MQ below (TQ D (pI (fun H b H' => b = r.1 ∧ ON D 0 x0 [.ref x0r0, .ref x0r1, .ref x0r2, .int x0f3, .int r.2.1, .int x0f5, .int x0f6] H' ∧ aD D x0r1 8 r.2.2 H' ∧ Off (fun a => a = x0 ∨ a = x0r1) H H'))) A s 6 85 (fun q => dB D ≤ q) := ⟨_, rfl⟩
  have hF : Off (fun a => a = x0 ∨ a = x0r1) s.heap s.heap := Off.rf
  show W p l e R_X1_cosine s m A below meth c s.heap [] 0 0 _ _
  rw [← eQ]
  obtain ⟨H, eH⟩ : ∃ H : Heap, H = s.heap := ⟨_, rfl⟩
  obtain ⟨locs, eLc⟩ : ∃ L : List Loc, L = [] := ⟨_, rfl⟩
  have lt_h_x0 := h_x0.lt
  have lt_h_x0r0 := h_x0r0.lt
  have lt_h_x0r1 := h_x0r1.lt
  have lt_h_x0r2 := h_x0r2.lt
  rw [← eH, ← eLc]
  have hF : Off (fun a => a = x0 ∨ a = x0r1) s.heap H := by rw [eH]; exact hF
  rw [← eH] at h_x0
  rw [← eH] at h_x0r0
  rw [← eH] at h_x0r1
  rw [← eH] at h_x0r2
  have hS : St D s H locs := by rw [eH, eLc]; exact hS
  refine lv_aload_n hx hb dX1_cosine_0 rfl (lv_at hl 0 rfl) ?_
  refine lv_iload_n hx hb dX1_cosine_1 rfl (lv_at hl 2 rfl) ?_
  refine lv_aload_n hx hb dX1_cosine_2 rfl (lv_at hl 0 rfl) ?_
  refine lv_iload_n hx hb dX1_cosine_3 rfl (lv_at hl 1 rfl) ?_
  obtain ⟨o1, eo1, h⟩ := bind_step h
  refine r_cp (r_runV (rest := [.int x2, .ref x0]) (As := [.int x1]) hC 1 (m_X1_angleAt x0 x0r0 x0r1 x0r2  x0r0c x0r1c x0r2c x0f3 x0f4 x0f5 x0f6 x1 o1 eo1) q952 q954 qs11 q46 q955 (OA.recv hS h_x0.OA (C := RX1) rfl) hd_X1_angleAt rfl ⟨Nat.le_of_ble_eq_true rfl, Nat.le_of_ble_eq_true rfl⟩ hS ⟨h_x0, h_x0r0, h_x0r1, h_x0r2⟩ hl.1 rfl (Nat.le_of_ble_eq_true rfl) dX1_cosine_4 ⟨Nat.le_of_ble_eq_true rfl, Nat.le_of_ble_eq_true rfl⟩) ?_
  obtain ⟨o2, eo2, h⟩ := bind_step h
  refine r_cd (r_runS (rest := [.int x2, .ref x0]) (As := [.double o1]) hC 1 (m_J6_cos o1  o2 eo2) q318 q319 q47 q320 hd_J6_cos rfl ⟨Nat.le_of_ble_eq_true rfl, Nat.le_of_ble_eq_true rfl⟩ hS trivial hl.1 rfl (Nat.le_of_ble_eq_true rfl) dX1_cosine_7 ⟨Nat.le_of_ble_eq_true rfl, Nat.le_of_ble_eq_true rfl⟩) hS (fun b H locs hp hS hz => ?_)
  obtain ⟨eb_, hO⟩ := hp
  rw [eb_]
  have h_x0 := h_x0.ext hO
  have h_x0r0 := h_x0r0.ext hO
  have h_x0r1 := h_x0r1.ext hO
  have h_x0r2 := h_x0r2.ext hO
  have hF := hF.trans (hO.mono (fun _ _ z => z.elim))
  obtain ⟨o3, eo3, h⟩ := bind_step h
  refine r_ci (r_runV (rest := []) (As := [.int x2, .double o2]) hC 2 (m_X1_heightPut x0 x0r0 x0r1 x0r2  x0r0c x0r1c x0r2c x0f3 x0f4 x0f5 x0f6 x2 o2 o3 eo3) q1377 q1379 qs24 q46 q1380 (OA.recv hS h_x0.OA (C := RX1) rfl) hd_X1_heightPut rfl ⟨Nat.le_of_ble_eq_true rfl, Nat.le_of_ble_eq_true rfl⟩ hS ⟨h_x0, hB_h_x0, h_x0r0, h_x0r1, hB_h_x0r1, h_x0r2, ne_x0_x0r0, ne_x0_x0r1, ne_x0_x0r2, ne_x0r0_x0r1, ne_x0r1_x0r2⟩ hl.1 rfl (Nat.le_of_ble_eq_true rfl) dX1_cosine_10 ⟨Nat.le_of_ble_eq_true rfl, Nat.le_of_ble_eq_true rfl⟩) hS (fun b H locs hp hS hz => ?_)
  obtain ⟨rfl, h_x0, h_x0r1, hO⟩ := hp
  have h_x0r0 := h_x0r0.off hO (fun z => by rcases z with z | z <;> first | exact (Ne.symm ne_x0_x0r0) z | exact ne_x0r0_x0r1 z)
  have h_x0r2 := h_x0r2.off hO (fun z => by rcases z with z | z <;> first | exact (Ne.symm ne_x0_x0r2) z | exact (Ne.symm ne_x0r1_x0r2) z)
  have hF := hF.fresh hO (fun a ha z => by
    rcases z with z | z
    · exact Or.inl z
    · exact Or.inr (z))
  obtain rfl := Option.some.inj h
  rw [eQ]
  exact r_iret hx hb hr hlk hS (Nat.le_of_ble_eq_true rfl) (Nat.le_of_ble_eq_true rfl) dX1_cosine_13 ⟨_, rfl, rfl, h_x0, h_x0r1, hF⟩

abbrev R_X1_tangent : Room := { frames := 9, cells := 6, slots := 85, locals := 1411 }
noncomputable def f_X1_tangent (x0r0c : Nat → UInt64) (x0r1c : Nat → UInt64) (x0r2c : Nat → Int32) (x0f3 : Int32) (x0f4 : Int32) (x0f5 : Int32) (x0f6 : Int32) (x1 : Int32) (x2 : Int32) : Option (Int32 × Int32 × (Nat → UInt64)) :=
  Option.bind (f_X1_angleAt x0r0c x0r1c x0r2c x0f3 x0f4 x0f5 x0f6 x1) fun o1 =>
  Option.bind (f_J6_tan o1) fun o2 =>
  Option.bind (f_X1_heightPut x0r0c x0r1c x0r2c x0f3 x0f4 x0f5 x0f6 x2 o2) fun o3 =>
  some (o3.1, o3.2.1, o3.2.2)
theorem hd_X1_tangent : Hd yX1_tangent 2 := by unfold Hd; decide +kernel
set_option maxHeartbeats 4000000 in
set_option maxRecDepth 100000 in
theorem m_X1_tangent {l : Launch} {D : DD} (x0 : Nat) (x0r0 : Nat) (x0r1 : Nat) (x0r2 : Nat)  (x0r0c : Nat → UInt64) (x0r1c : Nat → UInt64) (x0r2c : Nat → Int32) (x0f3 : Int32) (x0f4 : Int32) (x0f5 : Int32) (x0f6 : Int32) (x1 : Int32) (x2 : Int32) (r : Int32 × Int32 × (Nat → UInt64)) (h : f_X1_tangent x0r0c x0r1c x0r2c x0f3 x0f4 x0f5 x0f6 x1 x2 = some r) : MT l D yX1_tangent cX1_tangent 3 (some .int) 9 1411 6 85 [.ref x0, .int x1, .int x2] (fun H => ON D 0 x0 [.ref x0r0, .ref x0r1, .ref x0r2, .int x0f3, .int x0f4, .int x0f5, .int x0f6] H ∧ dB D ≤ x0 ∧ aD D x0r0 8 x0r0c H ∧ aD D x0r1 8 x0r1c H ∧ dB D ≤ x0r1 ∧ aZ D x0r2 8 x0r2c H ∧ x0 ≠ x0r0 ∧ x0 ≠ x0r1 ∧ x0 ≠ x0r2 ∧ x0r0 ≠ x0r1 ∧ x0r1 ≠ x0r2) (pI (fun H b H' => b = r.1 ∧ ON D 0 x0 [.ref x0r0, .ref x0r1, .ref x0r2, .int x0f3, .int r.2.1, .int x0f5, .int x0f6] H' ∧ aD D x0r1 8 r.2.2 H' ∧ Off (fun a => a = x0 ∨ a = x0r1) H H')) := by
  refine MT.start (by decide +kernel) (Nat.le_of_ble_eq_true rfl) ?_
  intro p e s m below meth c ls hC hS hp hl
  obtain ⟨h_x0, hB_h_x0, h_x0r0, h_x0r1, hB_h_x0r1, h_x0r2, ne_x0_x0r0, ne_x0_x0r1, ne_x0_x0r2, ne_x0r0_x0r1, ne_x0r1_x0r2⟩ := hp
  obtain ⟨hx, hb, hr, hlk, hml, hown, hts, hnm⟩ := id hC
  have hl : lv_has ls 3 [(0, .ref x0), (1, .int x1), (2, .int x2)] := hl
  unfold f_X1_tangent at h
  have hS0 := hS
  obtain ⟨A, eA⟩ : ∃ A : Array Value, A = [.ref x0, .int x1, .int x2].toArray := ⟨_, rfl⟩
  rw [← eA] at hC hts ⊢
  obtain ⟨Q, eQ⟩ : ∃ Q : State → Prop, Q = MQ below (TQ D (pI (fun H b H' => b = r.1 ∧ ON D 0 x0 [.ref x0r0, .ref x0r1, .ref x0r2, .int x0f3, .int r.2.1, .int x0f5, .int x0f6] H' ∧ aD D x0r1 8 r.2.2 H' ∧ Off (fun a => a = x0 ∨ a = x0r1) H H'))) A s 6 85 (fun q => dB D ≤ q) := ⟨_, rfl⟩
  have hF : Off (fun a => a = x0 ∨ a = x0r1) s.heap s.heap := Off.rf
  show W p l e R_X1_tangent s m A below meth c s.heap [] 0 0 _ _
  rw [← eQ]
  obtain ⟨H, eH⟩ : ∃ H : Heap, H = s.heap := ⟨_, rfl⟩
  obtain ⟨locs, eLc⟩ : ∃ L : List Loc, L = [] := ⟨_, rfl⟩
  have lt_h_x0 := h_x0.lt
  have lt_h_x0r0 := h_x0r0.lt
  have lt_h_x0r1 := h_x0r1.lt
  have lt_h_x0r2 := h_x0r2.lt
  rw [← eH, ← eLc]
  have hF : Off (fun a => a = x0 ∨ a = x0r1) s.heap H := by rw [eH]; exact hF
  rw [← eH] at h_x0
  rw [← eH] at h_x0r0
  rw [← eH] at h_x0r1
  rw [← eH] at h_x0r2
  have hS : St D s H locs := by rw [eH, eLc]; exact hS
  refine lv_aload_n hx hb dX1_tangent_0 rfl (lv_at hl 0 rfl) ?_
  refine lv_iload_n hx hb dX1_tangent_1 rfl (lv_at hl 2 rfl) ?_
  refine lv_aload_n hx hb dX1_tangent_2 rfl (lv_at hl 0 rfl) ?_
  refine lv_iload_n hx hb dX1_tangent_3 rfl (lv_at hl 1 rfl) ?_
  obtain ⟨o1, eo1, h⟩ := bind_step h
  refine r_cp (r_runV (rest := [.int x2, .ref x0]) (As := [.int x1]) hC 1 (m_X1_angleAt x0 x0r0 x0r1 x0r2  x0r0c x0r1c x0r2c x0f3 x0f4 x0f5 x0f6 x1 o1 eo1) q952 q954 qs11 q46 q955 (OA.recv hS h_x0.OA (C := RX1) rfl) hd_X1_angleAt rfl ⟨Nat.le_of_ble_eq_true rfl, Nat.le_of_ble_eq_true rfl⟩ hS ⟨h_x0, h_x0r0, h_x0r1, h_x0r2⟩ hl.1 rfl (Nat.le_of_ble_eq_true rfl) dX1_tangent_4 ⟨Nat.le_of_ble_eq_true rfl, Nat.le_of_ble_eq_true rfl⟩) ?_
  obtain ⟨o2, eo2, h⟩ := bind_step h
  refine r_cd (r_runS (rest := [.int x2, .ref x0]) (As := [.double o1]) hC 1 (m_J6_tan o1  o2 eo2) q329 q330 q47 q331 hd_J6_tan rfl ⟨Nat.le_of_ble_eq_true rfl, Nat.le_of_ble_eq_true rfl⟩ hS trivial hl.1 rfl (Nat.le_of_ble_eq_true rfl) dX1_tangent_7 ⟨Nat.le_of_ble_eq_true rfl, Nat.le_of_ble_eq_true rfl⟩) hS (fun b H locs hp hS hz => ?_)
  obtain ⟨eb_, hO⟩ := hp
  rw [eb_]
  have h_x0 := h_x0.ext hO
  have h_x0r0 := h_x0r0.ext hO
  have h_x0r1 := h_x0r1.ext hO
  have h_x0r2 := h_x0r2.ext hO
  have hF := hF.trans (hO.mono (fun _ _ z => z.elim))
  obtain ⟨o3, eo3, h⟩ := bind_step h
  refine r_ci (r_runV (rest := []) (As := [.int x2, .double o2]) hC 2 (m_X1_heightPut x0 x0r0 x0r1 x0r2  x0r0c x0r1c x0r2c x0f3 x0f4 x0f5 x0f6 x2 o2 o3 eo3) q1377 q1379 qs24 q46 q1380 (OA.recv hS h_x0.OA (C := RX1) rfl) hd_X1_heightPut rfl ⟨Nat.le_of_ble_eq_true rfl, Nat.le_of_ble_eq_true rfl⟩ hS ⟨h_x0, hB_h_x0, h_x0r0, h_x0r1, hB_h_x0r1, h_x0r2, ne_x0_x0r0, ne_x0_x0r1, ne_x0_x0r2, ne_x0r0_x0r1, ne_x0r1_x0r2⟩ hl.1 rfl (Nat.le_of_ble_eq_true rfl) dX1_tangent_10 ⟨Nat.le_of_ble_eq_true rfl, Nat.le_of_ble_eq_true rfl⟩) hS (fun b H locs hp hS hz => ?_)
  obtain ⟨rfl, h_x0, h_x0r1, hO⟩ := hp
  have h_x0r0 := h_x0r0.off hO (fun z => by rcases z with z | z <;> first | exact (Ne.symm ne_x0_x0r0) z | exact ne_x0r0_x0r1 z)
  have h_x0r2 := h_x0r2.off hO (fun z => by rcases z with z | z <;> first | exact (Ne.symm ne_x0_x0r2) z | exact (Ne.symm ne_x0r1_x0r2) z)
  have hF := hF.fresh hO (fun a ha z => by
    rcases z with z | z
    · exact Or.inl z
    · exact Or.inr (z))
  obtain rfl := Option.some.inj h
  rw [eQ]
  exact r_iret hx hb hr hlk hS (Nat.le_of_ble_eq_true rfl) (Nat.le_of_ble_eq_true rfl) dX1_tangent_13 ⟨_, rfl, rfl, h_x0, h_x0r1, hF⟩

abbrev R_X1_angleDoublings : Room := { frames := 5, cells := 0, slots := 0, locals := 110 }
noncomputable def f_X1_angleDoublings (x0r0c : Nat → UInt64) (x0r1c : Nat → UInt64) (x0r2c : Nat → Int32) (x0f3 : Int32) (x0f4 : Int32) (x0f5 : Int32) (x0f6 : Int32) (x1 : Int32) : Option (Int32) :=
  Option.bind (f_X1_angleAt x0r0c x0r1c x0r2c x0f3 x0f4 x0f5 x0f6 x1) fun o1 =>
  Option.bind (f_X1_doublingsOf o1) fun o2 =>
  some o2
theorem hd_X1_angleDoublings : Hd yX1_angleDoublings 1 := by unfold Hd; decide +kernel
set_option maxHeartbeats 4000000 in
set_option maxRecDepth 100000 in
theorem m_X1_angleDoublings {l : Launch} {D : DD} (x0 : Nat) (x0r0 : Nat) (x0r1 : Nat) (x0r2 : Nat)  (x0r0c : Nat → UInt64) (x0r1c : Nat → UInt64) (x0r2c : Nat → Int32) (x0f3 : Int32) (x0f4 : Int32) (x0f5 : Int32) (x0f6 : Int32) (x1 : Int32) (r : Int32) (h : f_X1_angleDoublings x0r0c x0r1c x0r2c x0f3 x0f4 x0f5 x0f6 x1 = some r) : MP l D yX1_angleDoublings cX1_angleDoublings 2 (some .int) 5 110 [.ref x0, .int x1] (fun H => ON D 0 x0 [.ref x0r0, .ref x0r1, .ref x0r2, .int x0f3, .int x0f4, .int x0f5, .int x0f6] H ∧ aD D x0r0 8 x0r0c H ∧ aD D x0r1 8 x0r1c H ∧ aZ D x0r2 8 x0r2c H) (some (.int r)) := by
  refine MP.start (by decide +kernel) (Nat.le_of_ble_eq_true rfl) ?_
  intro p e s m below meth c ls hC hS hp hl
  obtain ⟨h_x0, h_x0r0, h_x0r1, h_x0r2⟩ := hp
  obtain ⟨hx, hb, hr, hlk, hml, hown, hts, hnm⟩ := id hC
  have hl : lv_has ls 2 [(0, .ref x0), (1, .int x1)] := hl
  unfold f_X1_angleDoublings at h
  have hS0 := hS
  obtain ⟨A, eA⟩ : ∃ A : Array Value, A = [.ref x0, .int x1].toArray := ⟨_, rfl⟩
  rw [← eA] at hC hts ⊢
  obtain ⟨Q, eQ⟩ : ∃ Q : State → Prop, Q = MQ below (PQ (some (.int r))) A s 0 0 (fun _ => False) := ⟨_, rfl⟩
  show W p l e R_X1_angleDoublings s m A below meth c s.heap [] 0 0 _ _
  rw [← eQ]
  refine lv_aload_n hx hb dX1_angleDoublings_0 rfl (lv_at hl 0 rfl) ?_
  refine lv_iload_n hx hb dX1_angleDoublings_1 rfl (lv_at hl 1 rfl) ?_
  obtain ⟨o1, eo1, h⟩ := bind_step h
  refine r_cp (r_runV (rest := []) (As := [.int x1]) hC 1 (m_X1_angleAt x0 x0r0 x0r1 x0r2  x0r0c x0r1c x0r2c x0f3 x0f4 x0f5 x0f6 x1 o1 eo1) q952 q954 qs11 q46 q955 (OA.recv hS h_x0.OA (C := RX1) rfl) hd_X1_angleAt rfl ⟨Nat.le_of_ble_eq_true rfl, Nat.le_of_ble_eq_true rfl⟩ hS ⟨h_x0, h_x0r0, h_x0r1, h_x0r2⟩ hl.1 rfl (Nat.le_of_ble_eq_true rfl) dX1_angleDoublings_2 ⟨Nat.le_of_ble_eq_true rfl, Nat.le_of_ble_eq_true rfl⟩) ?_
  obtain ⟨o2, eo2, h⟩ := bind_step h
  refine r_cp (r_runS (rest := []) (As := [.double o1]) hC 1 (m_X1_doublingsOf   o1 o2 eo2) q392 q393 q46 q394 hd_X1_doublingsOf rfl ⟨Nat.le_of_ble_eq_true rfl, Nat.le_of_ble_eq_true rfl⟩ hS trivial hl.1 rfl (Nat.le_of_ble_eq_true rfl) dX1_angleDoublings_5 ⟨Nat.le_of_ble_eq_true rfl, Nat.le_of_ble_eq_true rfl⟩) ?_
  obtain rfl := Option.some.inj h
  rw [eQ]
  exact p_iret hx hb hr hlk dX1_angleDoublings_8 rfl

abbrev R_X1_angleSame : Room := { frames := 5, cells := 2, slots := 2, locals := 109 }
noncomputable def f_X1_angleSame (x0r0c : Nat → UInt64) (x0r1c : Nat → UInt64) (x0r2c : Nat → Int32) (x0f3 : Int32) (x0f4 : Int32) (x0f5 : Int32) (x0f6 : Int32) (x1 : Int32) (x2 : Int32) (x3 : Int32) : Option (Bool) :=
  Option.bind (f_X1_angleAt x0r0c x0r1c x0r2c x0f3 x0f4 x0f5 x0f6 x1) fun o1 =>
  Option.bind (f_X1_angleAt x0r0c x0r1c x0r2c x0f3 x0f4 x0f5 x0f6 x2) fun o2 =>
  Option.bind (f_X1_isIn x3 0 2) fun o3 =>
  Option.bind (f_X1_mustFit o3) fun o4 =>
  Option.bind (f_J10_valueOf o1) fun o5 =>
  Option.bind (f_J10_valueOf o2) fun o7 =>
  Option.bind (f_X1_isSameBy o5 o7 x3) fun o9 =>
  some o9
theorem hd_X1_angleSame : Hd yX1_angleSame 3 := by unfold Hd; decide +kernel
set_option maxHeartbeats 4000000 in
set_option maxRecDepth 100000 in
theorem m_X1_angleSame {l : Launch} {D : DD} (x0 : Nat) (x0r0 : Nat) (x0r1 : Nat) (x0r2 : Nat)  (x0r0c : Nat → UInt64) (x0r1c : Nat → UInt64) (x0r2c : Nat → Int32) (x0f3 : Int32) (x0f4 : Int32) (x0f5 : Int32) (x0f6 : Int32) (x1 : Int32) (x2 : Int32) (x3 : Int32) (r : Bool) (h : f_X1_angleSame x0r0c x0r1c x0r2c x0f3 x0f4 x0f5 x0f6 x1 x2 x3 = some r) : MT l D yX1_angleSame cX1_angleSame 8 (some .boolean) 5 109 2 2 [.ref x0, .int x1, .int x2, .int x3] (fun H => ON D 0 x0 [.ref x0r0, .ref x0r1, .ref x0r2, .int x0f3, .int x0f4, .int x0f5, .int x0f6] H ∧ aD D x0r0 8 x0r0c H ∧ aD D x0r1 8 x0r1c H ∧ aZ D x0r2 8 x0r2c H) (pZ (fun H b H' => b = r ∧ Off (fun _ => False) H H')) := by
  refine MT.start (by decide +kernel) (Nat.le_of_ble_eq_true rfl) ?_
  intro p e s m below meth c ls hC hS hp hl
  obtain ⟨h_x0, h_x0r0, h_x0r1, h_x0r2⟩ := hp
  obtain ⟨hx, hb, hr, hlk, hml, hown, hts, hnm⟩ := id hC
  have hl : lv_has ls 8 [(0, .ref x0), (1, .int x1), (2, .int x2), (3, .int x3)] := hl
  unfold f_X1_angleSame at h
  have hS0 := hS
  obtain ⟨A, eA⟩ : ∃ A : Array Value, A = [.ref x0, .int x1, .int x2, .int x3].toArray := ⟨_, rfl⟩
  rw [← eA] at hC hts ⊢
  obtain ⟨Q, eQ⟩ : ∃ Q : State → Prop, Q = MQ below (TQ D (pZ (fun H b H' => b = r ∧ Off (fun _ => False) H H'))) A s 2 2 (fun q => dB D ≤ q) := ⟨_, rfl⟩
  have hF : Off (fun _ => False) s.heap s.heap := Off.rf
  show W p l e R_X1_angleSame s m A below meth c s.heap [] 0 0 _ _
  rw [← eQ]
  obtain ⟨H, eH⟩ : ∃ H : Heap, H = s.heap := ⟨_, rfl⟩
  obtain ⟨locs, eLc⟩ : ∃ L : List Loc, L = [] := ⟨_, rfl⟩
  have lt_h_x0 := h_x0.lt
  have lt_h_x0r0 := h_x0r0.lt
  have lt_h_x0r1 := h_x0r1.lt
  have lt_h_x0r2 := h_x0r2.lt
  rw [← eH, ← eLc]
  have hF : Off (fun _ => False) s.heap H := by rw [eH]; exact hF
  rw [← eH] at h_x0
  rw [← eH] at h_x0r0
  rw [← eH] at h_x0r1
  rw [← eH] at h_x0r2
  have hS : St D s H locs := by rw [eH, eLc]; exact hS
  refine lv_aload_n hx hb dX1_angleSame_0 rfl (lv_at hl 0 rfl) ?_
  refine lv_iload_n hx hb dX1_angleSame_1 rfl (lv_at hl 1 rfl) ?_
  obtain ⟨o1, eo1, h⟩ := bind_step h
  refine r_cp (r_runV (rest := []) (As := [.int x1]) hC 1 (m_X1_angleAt x0 x0r0 x0r1 x0r2  x0r0c x0r1c x0r2c x0f3 x0f4 x0f5 x0f6 x1 o1 eo1) q952 q954 qs11 q46 q955 (OA.recv hS h_x0.OA (C := RX1) rfl) hd_X1_angleAt rfl ⟨Nat.le_of_ble_eq_true rfl, Nat.le_of_ble_eq_true rfl⟩ hS ⟨h_x0, h_x0r0, h_x0r1, h_x0r2⟩ hl.1 rfl (Nat.le_of_ble_eq_true rfl) dX1_angleSame_2 ⟨Nat.le_of_ble_eq_true rfl, Nat.le_of_ble_eq_true rfl⟩) ?_
  refine lv_dstore (lv' := [(4, .double o1), (0, .ref x0), (1, .int x1), (2, .int x2), (3, .int x3)]) hx hb dX1_angleSame_5 hl (by decide) rfl (fun ls hl => ?_)
  refine lv_aload_n hx hb dX1_angleSame_7 rfl (lv_at hl 1 rfl) ?_
  refine lv_iload_n hx hb dX1_angleSame_8 rfl (lv_at hl 3 rfl) ?_
  obtain ⟨o2, eo2, h⟩ := bind_step h
  refine r_cp (r_runV (rest := []) (As := [.int x2]) hC 1 (m_X1_angleAt x0 x0r0 x0r1 x0r2  x0r0c x0r1c x0r2c x0f3 x0f4 x0f5 x0f6 x2 o2 eo2) q952 q954 qs11 q46 q955 (OA.recv hS h_x0.OA (C := RX1) rfl) hd_X1_angleAt rfl ⟨Nat.le_of_ble_eq_true rfl, Nat.le_of_ble_eq_true rfl⟩ hS ⟨h_x0, h_x0r0, h_x0r1, h_x0r2⟩ hl.1 rfl (Nat.le_of_ble_eq_true rfl) dX1_angleSame_9 ⟨Nat.le_of_ble_eq_true rfl, Nat.le_of_ble_eq_true rfl⟩) ?_
  refine lv_dstore (lv' := [(6, .double o2), (4, .double o1), (0, .ref x0), (1, .int x1), (2, .int x2), (3, .int x3)]) hx hb dX1_angleSame_12 hl (by decide) rfl (fun ls hl => ?_)
  refine lv_iload_n hx hb dX1_angleSame_14 rfl (lv_at hl 5 rfl) ?_
  refine lv_iconst (v := 0) hx hb dX1_angleSame_15 (by decide) ?_
  refine lv_iconst (v := 2) hx hb dX1_angleSame_16 (by decide) ?_
  obtain ⟨o3, eo3, h⟩ := bind_step h
  refine r_cp (r_runS (rest := []) (As := [.int x3, .int 0, .int 2]) hC 3 (m_X1_isIn   x3 0 2 o3 eo3) q395 q396 q46 q397 hd_X1_isIn rfl ⟨Nat.le_of_ble_eq_true rfl, Nat.le_of_ble_eq_true rfl⟩ hS trivial hl.1 rfl (Nat.le_of_ble_eq_true rfl) dX1_angleSame_17 ⟨Nat.le_of_ble_eq_true rfl, Nat.le_of_ble_eq_true rfl⟩) ?_
  obtain ⟨o4, eo4, h⟩ := bind_step h
  refine r_cpv (r_runS (rest := []) (As := [.int (bI o3)]) hC 1 (m_X1_mustFit   o3 o4 eo4) q1230 q1231 q46 q1232 hd_X1_mustFit rfl ⟨Nat.le_of_ble_eq_true rfl, Nat.le_of_ble_eq_true rfl⟩ hS trivial hl.1 rfl (Nat.le_of_ble_eq_true rfl) dX1_angleSame_20 ⟨Nat.le_of_ble_eq_true rfl, Nat.le_of_ble_eq_true rfl⟩) ?_
  refine lv_dload hx hb dX1_angleSame_23 (lv_at hl 1 rfl) ?_
  obtain ⟨o5, eo5, h⟩ := bind_step h
  refine r_cr (r_runS (rest := []) (As := [.double o1]) hC 1 (m_J10_valueOf   o1 o5 eo5) q1301 q1302 q51 q1303 hd_J10_valueOf rfl ⟨Nat.le_of_ble_eq_true rfl, Nat.le_of_ble_eq_true rfl⟩ hS trivial hl.1 rfl (Nat.le_of_ble_eq_true rfl) dX1_angleSame_25 ⟨Nat.le_of_ble_eq_true rfl, Nat.le_of_ble_eq_true rfl⟩) hS (fun ad6 H locs hp hS hz => ?_)
  obtain ⟨had6, frad6, hO⟩ := hp
  have ne_h_x0_had6 : x0 ≠ ad6 := Nat.ne_of_lt (Nat.lt_of_lt_of_le h_x0.lt frad6)
  have ne_h_x0r0_had6 : x0r0 ≠ ad6 := Nat.ne_of_lt (Nat.lt_of_lt_of_le h_x0r0.lt frad6)
  have ne_h_x0r1_had6 : x0r1 ≠ ad6 := Nat.ne_of_lt (Nat.lt_of_lt_of_le h_x0r1.lt frad6)
  have ne_h_x0r2_had6 : x0r2 ≠ ad6 := Nat.ne_of_lt (Nat.lt_of_lt_of_le h_x0r2.lt frad6)
  have gad6 : s.heap.size ≤ ad6 := Nat.le_trans hF.1 frad6
  have hB_had6 : dB D ≤ ad6 := by have := hS0.1.2.2.1; omega
  have h_x0 := h_x0.ext hO
  have h_x0r0 := h_x0r0.ext hO
  have h_x0r1 := h_x0r1.ext hO
  have h_x0r2 := h_x0r2.ext hO
  have hF := hF.trans (hO.mono (fun _ _ z => z.elim))
  refine lv_dload hx hb dX1_angleSame_28 (lv_at hl 0 rfl) ?_
  obtain ⟨o7, eo7, h⟩ := bind_step h
  refine r_cr (r_runS (rest := [.ref ad6]) (As := [.double o2]) hC 1 (m_J10_valueOf   o2 o7 eo7) q1301 q1302 q51 q1303 hd_J10_valueOf rfl ⟨Nat.le_of_ble_eq_true rfl, Nat.le_of_ble_eq_true rfl⟩ hS trivial hl.1 rfl (Nat.le_of_ble_eq_true rfl) dX1_angleSame_30 ⟨Nat.le_of_ble_eq_true rfl, Nat.le_of_ble_eq_true rfl⟩) hS (fun ad8 H locs hp hS hz => ?_)
  obtain ⟨had8, frad8, hO⟩ := hp
  have ne_h_x0_had8 : x0 ≠ ad8 := Nat.ne_of_lt (Nat.lt_of_lt_of_le h_x0.lt frad8)
  have ne_h_x0r0_had8 : x0r0 ≠ ad8 := Nat.ne_of_lt (Nat.lt_of_lt_of_le h_x0r0.lt frad8)
  have ne_h_x0r1_had8 : x0r1 ≠ ad8 := Nat.ne_of_lt (Nat.lt_of_lt_of_le h_x0r1.lt frad8)
  have ne_h_x0r2_had8 : x0r2 ≠ ad8 := Nat.ne_of_lt (Nat.lt_of_lt_of_le h_x0r2.lt frad8)
  have ne_had6_had8 : ad6 ≠ ad8 := Nat.ne_of_lt (Nat.lt_of_lt_of_le had6.lt frad8)
  have gad8 : s.heap.size ≤ ad8 := Nat.le_trans hF.1 frad8
  have hB_had8 : dB D ≤ ad8 := by have := hS0.1.2.2.1; omega
  have h_x0 := h_x0.ext hO
  have h_x0r0 := h_x0r0.ext hO
  have h_x0r1 := h_x0r1.ext hO
  have h_x0r2 := h_x0r2.ext hO
  have had6 := had6.ext hO
  have hF := hF.trans (hO.mono (fun _ _ z => z.elim))
  refine lv_iload_n hx hb dX1_angleSame_33 rfl (lv_at hl 5 rfl) ?_
  obtain ⟨o9, eo9, h⟩ := bind_step h
  refine r_cp (r_runS (rest := []) (As := [.ref ad6, .ref ad8, .int x3]) hC 3 (m_X1_isSameBy ad6 ad8  o5 o7 x3 o9 eo9) q1423 q1424 q46 q1425 hd_X1_isSameBy rfl ⟨Nat.le_of_ble_eq_true rfl, Nat.le_of_ble_eq_true rfl⟩ hS ⟨had6, had8, ne_had6_had8⟩ hl.1 rfl (Nat.le_of_ble_eq_true rfl) dX1_angleSame_34 ⟨Nat.le_of_ble_eq_true rfl, Nat.le_of_ble_eq_true rfl⟩) ?_
  obtain rfl := Option.some.inj h
  rw [eQ]
  exact r_zret hx hb hr hlk hS (narB _) (Nat.le_of_ble_eq_true rfl) (Nat.le_of_ble_eq_true rfl) dX1_angleSame_37 ⟨_, rfl, rfl, hF⟩

abbrev R_X1_angleOrder : Room := { frames := 5, cells := 2, slots := 2, locals := 117 }
noncomputable def f_X1_angleOrder (x0r0c : Nat → UInt64) (x0r1c : Nat → UInt64) (x0r2c : Nat → Int32) (x0f3 : Int32) (x0f4 : Int32) (x0f5 : Int32) (x0f6 : Int32) (x1 : Int32) (x2 : Int32) (x3 : Int32) : Option (Int32) :=
  Option.bind (f_X1_angleAt x0r0c x0r1c x0r2c x0f3 x0f4 x0f5 x0f6 x1) fun o1 =>
  Option.bind (f_X1_angleAt x0r0c x0r1c x0r2c x0f3 x0f4 x0f5 x0f6 x2) fun o2 =>
  Option.bind (f_X1_isIn x3 0 1) fun o3 =>
  Option.bind (f_X1_mustFit o3) fun o4 =>
  Option.bind (f_X1_orderOf o1 o2 x3) fun o5 =>
  some o5
theorem hd_X1_angleOrder : Hd yX1_angleOrder 3 := by unfold Hd; decide +kernel
set_option maxHeartbeats 4000000 in
set_option maxRecDepth 100000 in
theorem m_X1_angleOrder {l : Launch} {D : DD} (x0 : Nat) (x0r0 : Nat) (x0r1 : Nat) (x0r2 : Nat)  (x0r0c : Nat → UInt64) (x0r1c : Nat → UInt64) (x0r2c : Nat → Int32) (x0f3 : Int32) (x0f4 : Int32) (x0f5 : Int32) (x0f6 : Int32) (x1 : Int32) (x2 : Int32) (x3 : Int32) (r : Int32) (h : f_X1_angleOrder x0r0c x0r1c x0r2c x0f3 x0f4 x0f5 x0f6 x1 x2 x3 = some r) : MT l D yX1_angleOrder cX1_angleOrder 8 (some .int) 5 117 2 2 [.ref x0, .int x1, .int x2, .int x3] (fun H => ON D 0 x0 [.ref x0r0, .ref x0r1, .ref x0r2, .int x0f3, .int x0f4, .int x0f5, .int x0f6] H ∧ aD D x0r0 8 x0r0c H ∧ aD D x0r1 8 x0r1c H ∧ aZ D x0r2 8 x0r2c H) (pI (fun H b H' => b = r ∧ Off (fun _ => False) H H')) := by
  refine MT.start (by decide +kernel) (Nat.le_of_ble_eq_true rfl) ?_
  intro p e s m below meth c ls hC hS hp hl
  obtain ⟨h_x0, h_x0r0, h_x0r1, h_x0r2⟩ := hp
  obtain ⟨hx, hb, hr, hlk, hml, hown, hts, hnm⟩ := id hC
  have hl : lv_has ls 8 [(0, .ref x0), (1, .int x1), (2, .int x2), (3, .int x3)] := hl
  unfold f_X1_angleOrder at h
  have hS0 := hS
  obtain ⟨A, eA⟩ : ∃ A : Array Value, A = [.ref x0, .int x1, .int x2, .int x3].toArray := ⟨_, rfl⟩
  rw [← eA] at hC hts ⊢
  obtain ⟨Q, eQ⟩ : ∃ Q : State → Prop, Q = MQ below (TQ D (pI (fun H b H' => b = r ∧ Off (fun _ => False) H H'))) A s 2 2 (fun q => dB D ≤ q) := ⟨_, rfl⟩
  have hF : Off (fun _ => False) s.heap s.heap := Off.rf
  show W p l e R_X1_angleOrder s m A below meth c s.heap [] 0 0 _ _
  rw [← eQ]
  obtain ⟨H, eH⟩ : ∃ H : Heap, H = s.heap := ⟨_, rfl⟩
  obtain ⟨locs, eLc⟩ : ∃ L : List Loc, L = [] := ⟨_, rfl⟩
  have lt_h_x0 := h_x0.lt
  have lt_h_x0r0 := h_x0r0.lt
  have lt_h_x0r1 := h_x0r1.lt
  have lt_h_x0r2 := h_x0r2.lt
  rw [← eH, ← eLc]
  have hF : Off (fun _ => False) s.heap H := by rw [eH]; exact hF
  rw [← eH] at h_x0
  rw [← eH] at h_x0r0
  rw [← eH] at h_x0r1
  rw [← eH] at h_x0r2
  have hS : St D s H locs := by rw [eH, eLc]; exact hS
  refine lv_aload_n hx hb dX1_angleOrder_0 rfl (lv_at hl 0 rfl) ?_
  refine lv_iload_n hx hb dX1_angleOrder_1 rfl (lv_at hl 1 rfl) ?_
  obtain ⟨o1, eo1, h⟩ := bind_step h
  refine r_cp (r_runV (rest := []) (As := [.int x1]) hC 1 (m_X1_angleAt x0 x0r0 x0r1 x0r2  x0r0c x0r1c x0r2c x0f3 x0f4 x0f5 x0f6 x1 o1 eo1) q952 q954 qs11 q46 q955 (OA.recv hS h_x0.OA (C := RX1) rfl) hd_X1_angleAt rfl ⟨Nat.le_of_ble_eq_true rfl, Nat.le_of_ble_eq_true rfl⟩ hS ⟨h_x0, h_x0r0, h_x0r1, h_x0r2⟩ hl.1 rfl (Nat.le_of_ble_eq_true rfl) dX1_angleOrder_2 ⟨Nat.le_of_ble_eq_true rfl, Nat.le_of_ble_eq_true rfl⟩) ?_
  refine lv_dstore (lv' := [(4, .double o1), (0, .ref x0), (1, .int x1), (2, .int x2), (3, .int x3)]) hx hb dX1_angleOrder_5 hl (by decide) rfl (fun ls hl => ?_)
  refine lv_aload_n hx hb dX1_angleOrder_7 rfl (lv_at hl 1 rfl) ?_
  refine lv_iload_n hx hb dX1_angleOrder_8 rfl (lv_at hl 3 rfl) ?_
  obtain ⟨o2, eo2, h⟩ := bind_step h
  refine r_cp (r_runV (rest := []) (As := [.int x2]) hC 1 (m_X1_angleAt x0 x0r0 x0r1 x0r2  x0r0c x0r1c x0r2c x0f3 x0f4 x0f5 x0f6 x2 o2 eo2) q952 q954 qs11 q46 q955 (OA.recv hS h_x0.OA (C := RX1) rfl) hd_X1_angleAt rfl ⟨Nat.le_of_ble_eq_true rfl, Nat.le_of_ble_eq_true rfl⟩ hS ⟨h_x0, h_x0r0, h_x0r1, h_x0r2⟩ hl.1 rfl (Nat.le_of_ble_eq_true rfl) dX1_angleOrder_9 ⟨Nat.le_of_ble_eq_true rfl, Nat.le_of_ble_eq_true rfl⟩) ?_
  refine lv_dstore (lv' := [(6, .double o2), (4, .double o1), (0, .ref x0), (1, .int x1), (2, .int x2), (3, .int x3)]) hx hb dX1_angleOrder_12 hl (by decide) rfl (fun ls hl => ?_)
  refine lv_iload_n hx hb dX1_angleOrder_14 rfl (lv_at hl 5 rfl) ?_
  refine lv_iconst (v := 0) hx hb dX1_angleOrder_15 (by decide) ?_
  refine lv_iconst (v := 1) hx hb dX1_angleOrder_16 (by decide) ?_
  obtain ⟨o3, eo3, h⟩ := bind_step h
  refine r_cp (r_runS (rest := []) (As := [.int x3, .int 0, .int 1]) hC 3 (m_X1_isIn   x3 0 1 o3 eo3) q395 q396 q46 q397 hd_X1_isIn rfl ⟨Nat.le_of_ble_eq_true rfl, Nat.le_of_ble_eq_true rfl⟩ hS trivial hl.1 rfl (Nat.le_of_ble_eq_true rfl) dX1_angleOrder_17 ⟨Nat.le_of_ble_eq_true rfl, Nat.le_of_ble_eq_true rfl⟩) ?_
  obtain ⟨o4, eo4, h⟩ := bind_step h
  refine r_cpv (r_runS (rest := []) (As := [.int (bI o3)]) hC 1 (m_X1_mustFit   o3 o4 eo4) q1230 q1231 q46 q1232 hd_X1_mustFit rfl ⟨Nat.le_of_ble_eq_true rfl, Nat.le_of_ble_eq_true rfl⟩ hS trivial hl.1 rfl (Nat.le_of_ble_eq_true rfl) dX1_angleOrder_20 ⟨Nat.le_of_ble_eq_true rfl, Nat.le_of_ble_eq_true rfl⟩) ?_
  refine lv_dload hx hb dX1_angleOrder_23 (lv_at hl 1 rfl) ?_
  refine lv_dload hx hb dX1_angleOrder_25 (lv_at hl 0 rfl) ?_
  refine lv_iload_n hx hb dX1_angleOrder_27 rfl (lv_at hl 5 rfl) ?_
  obtain ⟨o5, eo5, h⟩ := bind_step h
  refine r_ci (r_runS (rest := []) (As := [.double o1, .double o2, .int x3]) hC 3 (m_X1_orderOf   o1 o2 x3 o5 eo5) q1291 q1292 q46 q1293 hd_X1_orderOf rfl ⟨Nat.le_of_ble_eq_true rfl, Nat.le_of_ble_eq_true rfl⟩ hS trivial hl.1 rfl (Nat.le_of_ble_eq_true rfl) dX1_angleOrder_28 ⟨Nat.le_of_ble_eq_true rfl, Nat.le_of_ble_eq_true rfl⟩) hS (fun b H locs hp hS hz => ?_)
  obtain ⟨eb_, hO⟩ := hp
  rw [eb_]
  have h_x0 := h_x0.ext hO
  have h_x0r0 := h_x0r0.ext hO
  have h_x0r1 := h_x0r1.ext hO
  have h_x0r2 := h_x0r2.ext hO
  have hF := hF.trans (hO.mono (fun _ _ z => z.elim))
  obtain rfl := Option.some.inj h
  rw [eQ]
  exact r_iret hx hb hr hlk hS (Nat.le_of_ble_eq_true rfl) (Nat.le_of_ble_eq_true rfl) dX1_angleOrder_31 ⟨_, rfl, rfl, hF⟩

abbrev R_X1_heightText : Room := { frames := 6, cells := 5, slots := 128, locals := 149 }
noncomputable def f_X1_heightText (x0r0c : Nat → UInt64) (x0r1c : Nat → UInt64) (x0r2c : Nat → Int32) (x0f3 : Int32) (x0f4 : Int32) (x0f5 : Int32) (x0f6 : Int32) (x1 : Int32) : Option (Nat × (Nat → Int32)) :=
  Option.bind (f_X1_heightAt x0r0c x0r1c x0r2c x0f3 x0f4 x0f5 x0f6 x1) fun o1 =>
  Option.bind (f_J22_init ()) fun o3 =>
  Option.bind (f_X1_signOf o1) fun o5 =>
  Option.bind (f_J22_append_2_A o3.1 o3.2 0 o5) fun o6 =>
  Option.bind (f_J22_append_3_A o3.1 o6.2 o6.1 32) fun o8 =>
  Option.bind (f_X1_exponentOf o1) fun o10 =>
  Option.bind (f_J22_append_2_A o3.1 o8.2 o8.1 o10) fun o11 =>
  Option.bind (f_J22_append_3_A o3.1 o11.2 o11.1 32) fun o13 =>
  Option.bind (f_X1_fractionOf o1) fun o15 =>
  ltl (((o15 : Int64).toUInt64 >>> ((32 : Int32).toInt64.toUInt64 &&& Int64.toUInt64 63)).toInt64) fun v16 =>
  alt (f_J22_append_4_A o3.1 o13.2 o13.1 v16) (fun o17 =>
    Option.bind (f_J22_toString o3.1 o17.2 o17.1) fun o19 =>
    some (o19.1, o19.2)
  ) (
  Option.bind (f_J22_append_4_B o3.1 o13.2 o13.1 v16) fun o22 =>
  Option.bind (f_J22_toString o22.2.1 o22.2.2 o22.1) fun o25 =>
  some (o25.1, o25.2)
  )
theorem hd_X1_heightText : Hd yX1_heightText 1 := by unfold Hd; decide +kernel
set_option maxHeartbeats 4000000 in
set_option maxRecDepth 100000 in
theorem m_X1_heightText {l : Launch} {D : DD} (x0 : Nat) (x0r0 : Nat) (x0r1 : Nat) (x0r2 : Nat)  (x0r0c : Nat → UInt64) (x0r1c : Nat → UInt64) (x0r2c : Nat → Int32) (x0f3 : Int32) (x0f4 : Int32) (x0f5 : Int32) (x0f6 : Int32) (x1 : Int32) (r : Nat × (Nat → Int32)) (h : f_X1_heightText x0r0c x0r1c x0r2c x0f3 x0f4 x0f5 x0f6 x1 = some r) : MT l D yX1_heightText cX1_heightText 5 (some (.object "java/lang/String")) 6 149 5 128 [.ref x0, .int x1] (fun H => ON D 0 x0 [.ref x0r0, .ref x0r1, .ref x0r2, .int x0f3, .int x0f4, .int x0f5, .int x0f6] H ∧ aD D x0r0 8 x0r0c H ∧ aD D x0r1 8 x0r1c H ∧ aZ D x0r2 8 x0r2c H) (pR (fun H b H' => ∃ b_0 : Nat, ON D 3 b [.ref b_0, .int 0, .int 0, .int 0] H' ∧ aB D b_0 r.1 r.2 H' ∧ r.1 ≤ 1000000 ∧ H.size ≤ b_0 ∧ H.size ≤ b ∧ b ≠ b_0 ∧ Off (fun _ => False) H H')) := by
  refine MT.start (by decide +kernel) (Nat.le_of_ble_eq_true rfl) ?_
  intro p e s m below meth c ls hC hS hp hl
  obtain ⟨h_x0, h_x0r0, h_x0r1, h_x0r2⟩ := hp
  obtain ⟨hx, hb, hr, hlk, hml, hown, hts, hnm⟩ := id hC
  have hl : lv_has ls 5 [(0, .ref x0), (1, .int x1)] := hl
  unfold f_X1_heightText at h
  have hS0 := hS
  obtain ⟨A, eA⟩ : ∃ A : Array Value, A = [.ref x0, .int x1].toArray := ⟨_, rfl⟩
  rw [← eA] at hC hts ⊢
  obtain ⟨Q, eQ⟩ : ∃ Q : State → Prop, Q = MQ below (TQ D (pR (fun H b H' => ∃ b_0 : Nat, ON D 3 b [.ref b_0, .int 0, .int 0, .int 0] H' ∧ aB D b_0 r.1 r.2 H' ∧ r.1 ≤ 1000000 ∧ H.size ≤ b_0 ∧ H.size ≤ b ∧ b ≠ b_0 ∧ Off (fun _ => False) H H'))) A s 5 128 (fun q => dB D ≤ q) := ⟨_, rfl⟩
  have hF : Off (fun _ => False) s.heap s.heap := Off.rf
  show W p l e R_X1_heightText s m A below meth c s.heap [] 0 0 _ _
  rw [← eQ]
  obtain ⟨H, eH⟩ : ∃ H : Heap, H = s.heap := ⟨_, rfl⟩
  obtain ⟨locs, eLc⟩ : ∃ L : List Loc, L = [] := ⟨_, rfl⟩
  have lt_h_x0 := h_x0.lt
  have lt_h_x0r0 := h_x0r0.lt
  have lt_h_x0r1 := h_x0r1.lt
  have lt_h_x0r2 := h_x0r2.lt
  rw [← eH, ← eLc]
  have hF : Off (fun _ => False) s.heap H := by rw [eH]; exact hF
  rw [← eH] at h_x0
  rw [← eH] at h_x0r0
  rw [← eH] at h_x0r1
  rw [← eH] at h_x0r2
  have hS : St D s H locs := by rw [eH, eLc]; exact hS
  refine lv_aload_n hx hb dX1_heightText_0 rfl (lv_at hl 0 rfl) ?_
  refine lv_iload_n hx hb dX1_heightText_1 rfl (lv_at hl 1 rfl) ?_
  obtain ⟨o1, eo1, h⟩ := bind_step h
  refine r_cp (r_runV (rest := []) (As := [.int x1]) hC 1 (m_X1_heightAt x0 x0r0 x0r1 x0r2  x0r0c x0r1c x0r2c x0f3 x0f4 x0f5 x0f6 x1 o1 eo1) q1202 q1204 qs13 q46 q1205 (OA.recv hS h_x0.OA (C := RX1) rfl) hd_X1_heightAt rfl ⟨Nat.le_of_ble_eq_true rfl, Nat.le_of_ble_eq_true rfl⟩ hS ⟨h_x0, h_x0r0, h_x0r1, h_x0r2⟩ hl.1 rfl (Nat.le_of_ble_eq_true rfl) dX1_heightText_2 ⟨Nat.le_of_ble_eq_true rfl, Nat.le_of_ble_eq_true rfl⟩) ?_
  refine lv_dstore_n (lv' := [(2, .double o1), (0, .ref x0), (1, .int x1)]) hx hb dX1_heightText_5 rfl hl (by decide) rfl (fun ls hl => ?_)
  refine r_new (k := 4) hx hb hts hown hS rfl in_J22 tyJ22 tyJ22_ok q980 q535 q64 (fs := [.null, .int 0, .int 0, .int 0]) rfl (by decide) (Nat.le_of_ble_eq_true rfl) (Nat.le_of_ble_eq_true rfl) dX1_heightText_6 (fun ad2 H eq_ad2 hS hE had2 z_ad2 hB_had2 => ?_)
  have gad2 : s.heap.size ≤ ad2 := by have := hF.1; omega
  have ne_h_x0_had2 : x0 ≠ ad2 := by have := h_x0.lt; omega
  have h_x0 := h_x0.ext hE
  have ne_h_x0r0_had2 : x0r0 ≠ ad2 := by have := h_x0r0.lt; omega
  have h_x0r0 := h_x0r0.ext hE
  have ne_h_x0r1_had2 : x0r1 ≠ ad2 := by have := h_x0r1.lt; omega
  have h_x0r1 := h_x0r1.ext hE
  have ne_h_x0r2_had2 : x0r2 ≠ ad2 := by have := h_x0r2.lt; omega
  have h_x0r2 := h_x0r2.ext hE
  have hF := hF.trans (hE.mono (fun _ _ z => z.elim))
  refine lv_dup hx hb dX1_heightText_9 rfl ?_
  obtain ⟨o3, eo3, h⟩ := bind_step h
  have ltp_had2 := had2.lt
  refine r_cv (r_runI (rest := [.ref ad2]) (As := []) hC 0 (m_J22_init ad2   o3 eo3) q981 q537 q64 q538 rfl hd_J22_init rfl ⟨Nat.le_of_ble_eq_true rfl, Nat.le_of_ble_eq_true rfl⟩ hS ⟨had2, hB_had2⟩ hl.1 rfl (Nat.le_of_ble_eq_true rfl) dX1_heightText_10 ⟨Nat.le_of_ble_eq_true rfl, Nat.le_of_ble_eq_true rfl⟩) hS (fun H locs hp hS hz => ?_)
  obtain ⟨ad4, had2, had4, lo3_1, frad4, hO⟩ := hp
  have ne_h_x0_had4 : x0 ≠ ad4 := Nat.ne_of_lt (Nat.lt_of_lt_of_le h_x0.lt frad4)
  have ne_h_x0r0_had4 : x0r0 ≠ ad4 := Nat.ne_of_lt (Nat.lt_of_lt_of_le h_x0r0.lt frad4)
  have ne_h_x0r1_had4 : x0r1 ≠ ad4 := Nat.ne_of_lt (Nat.lt_of_lt_of_le h_x0r1.lt frad4)
  have ne_h_x0r2_had4 : x0r2 ≠ ad4 := Nat.ne_of_lt (Nat.lt_of_lt_of_le h_x0r2.lt frad4)
  have ne_had2_had4 : ad2 ≠ ad4 := Nat.ne_of_lt (Nat.lt_of_lt_of_le ltp_had2 frad4)
  have gad4 : s.heap.size ≤ ad4 := Nat.le_trans hF.1 frad4
  have hB_had4 : dB D ≤ ad4 := by have := hS0.1.2.2.1; omega
  have h_x0 := h_x0.off hO ne_h_x0_had2
  have h_x0r0 := h_x0r0.off hO ne_h_x0r0_had2
  have h_x0r1 := h_x0r1.off hO ne_h_x0r1_had2
  have h_x0r2 := h_x0r2.off hO ne_h_x0r2_had2
  have hF := hF.fresh hO (fun a ha z => absurd (z ▸ ha) (Nat.not_lt.mpr gad2))
  refine lv_astore (lv' := [(4, .ref ad2), (2, .double o1), (0, .ref x0), (1, .int x1)]) hx hb dX1_heightText_13 hl (by decide) rfl (fun ls hl => ?_)
  refine lv_aload hx hb dX1_heightText_15 (lv_at hl 0 rfl) ?_
  refine lv_dload_n hx hb dX1_heightText_17 rfl (lv_at hl 1 rfl) ?_
  obtain ⟨o5, eo5, h⟩ := bind_step h
  refine r_cp (r_runS (rest := [.ref ad2]) (As := [.double o1]) hC 1 (m_X1_signOf   o1 o5 eo5) q386 q387 q46 q388 hd_X1_signOf rfl ⟨Nat.le_of_ble_eq_true rfl, Nat.le_of_ble_eq_true rfl⟩ hS trivial hl.1 rfl (Nat.le_of_ble_eq_true rfl) dX1_heightText_18 ⟨Nat.le_of_ble_eq_true rfl, Nat.le_of_ble_eq_true rfl⟩) ?_
  obtain ⟨o6, eo6, h⟩ := bind_step h
  refine r_cr (r_runV (rest := []) (As := [.int o5]) hC 1 (m_J22_append_2_A ad2 ad4  o3.1 o3.2 0 o5 o6 eo6) q982 q675 q676 q64 q677 (OA.recv hS had2.OA (C := RJ22) rfl) hd_J22_append_2_A rfl ⟨Nat.le_of_ble_eq_true rfl, Nat.le_of_ble_eq_true rfl⟩ hS ⟨had2, hB_had2, had4, lo3_1, hB_had4, ne_had2_had4⟩ hl.1 rfl (Nat.le_of_ble_eq_true rfl) dX1_heightText_21 ⟨Nat.le_of_ble_eq_true rfl, Nat.le_of_ble_eq_true rfl⟩) hS (fun b H locs hp hS hz => ?_)
  obtain ⟨eb_, had2, had4, hO⟩ := hp
  rw [eb_]
  have h_x0 := h_x0.off hO (fun z => by rcases z with z | z <;> first | exact ne_h_x0_had2 z | exact ne_h_x0_had4 z)
  have h_x0r0 := h_x0r0.off hO (fun z => by rcases z with z | z <;> first | exact ne_h_x0r0_had2 z | exact ne_h_x0r0_had4 z)
  have h_x0r1 := h_x0r1.off hO (fun z => by rcases z with z | z <;> first | exact ne_h_x0r1_had2 z | exact ne_h_x0r1_had4 z)
  have h_x0r2 := h_x0r2.off hO (fun z => by rcases z with z | z <;> first | exact ne_h_x0r2_had2 z | exact ne_h_x0r2_had4 z)
  have hF := hF.fresh hO (fun a ha z => by
    rcases z with z | z
    · exact absurd (z ▸ ha) (Nat.not_lt.mpr gad2)
    · exact absurd (z ▸ ha) (Nat.not_lt.mpr gad4))
  refine lv_bipush (v := 32) hx hb dX1_heightText_24 (by decide) ?_
  obtain ⟨o8, eo8, h⟩ := bind_step h
  refine r_cr (r_runV (rest := []) (As := [.int 32]) hC 1 (m_J22_append_3_A ad2 ad4  o3.1 o6.2 o6.1 32 o8 eo8) q983 q984 q985 q64 q986 (OA.recv hS had2.OA (C := RJ22) rfl) hd_J22_append_3_A rfl ⟨Nat.le_of_ble_eq_true rfl, Nat.le_of_ble_eq_true rfl⟩ hS ⟨had2, hB_had2, had4, lo3_1, hB_had4, ne_had2_had4⟩ hl.1 rfl (Nat.le_of_ble_eq_true rfl) dX1_heightText_26 ⟨Nat.le_of_ble_eq_true rfl, Nat.le_of_ble_eq_true rfl⟩) hS (fun b H locs hp hS hz => ?_)
  obtain ⟨eb_, had2, had4, hO⟩ := hp
  rw [eb_]
  have h_x0 := h_x0.off hO (fun z => by rcases z with z | z <;> first | exact ne_h_x0_had2 z | exact ne_h_x0_had4 z)
  have h_x0r0 := h_x0r0.off hO (fun z => by rcases z with z | z <;> first | exact ne_h_x0r0_had2 z | exact ne_h_x0r0_had4 z)
  have h_x0r1 := h_x0r1.off hO (fun z => by rcases z with z | z <;> first | exact ne_h_x0r1_had2 z | exact ne_h_x0r1_had4 z)
  have h_x0r2 := h_x0r2.off hO (fun z => by rcases z with z | z <;> first | exact ne_h_x0r2_had2 z | exact ne_h_x0r2_had4 z)
  have hF := hF.fresh hO (fun a ha z => by
    rcases z with z | z
    · exact absurd (z ▸ ha) (Nat.not_lt.mpr gad2)
    · exact absurd (z ▸ ha) (Nat.not_lt.mpr gad4))
  refine lv_dload_n hx hb dX1_heightText_29 rfl (lv_at hl 1 rfl) ?_
  obtain ⟨o10, eo10, h⟩ := bind_step h
  refine r_cp (r_runS (rest := [.ref ad2]) (As := [.double o1]) hC 1 (m_X1_exponentOf   o1 o10 eo10) q360 q361 q46 q362 hd_X1_exponentOf rfl ⟨Nat.le_of_ble_eq_true rfl, Nat.le_of_ble_eq_true rfl⟩ hS trivial hl.1 rfl (Nat.le_of_ble_eq_true rfl) dX1_heightText_30 ⟨Nat.le_of_ble_eq_true rfl, Nat.le_of_ble_eq_true rfl⟩) ?_
  obtain ⟨o11, eo11, h⟩ := bind_step h
  refine r_cr (r_runV (rest := []) (As := [.int o10]) hC 1 (m_J22_append_2_A ad2 ad4  o3.1 o8.2 o8.1 o10 o11 eo11) q982 q675 q676 q64 q677 (OA.recv hS had2.OA (C := RJ22) rfl) hd_J22_append_2_A rfl ⟨Nat.le_of_ble_eq_true rfl, Nat.le_of_ble_eq_true rfl⟩ hS ⟨had2, hB_had2, had4, lo3_1, hB_had4, ne_had2_had4⟩ hl.1 rfl (Nat.le_of_ble_eq_true rfl) dX1_heightText_33 ⟨Nat.le_of_ble_eq_true rfl, Nat.le_of_ble_eq_true rfl⟩) hS (fun b H locs hp hS hz => ?_)
  obtain ⟨eb_, had2, had4, hO⟩ := hp
  rw [eb_]
  have h_x0 := h_x0.off hO (fun z => by rcases z with z | z <;> first | exact ne_h_x0_had2 z | exact ne_h_x0_had4 z)
  have h_x0r0 := h_x0r0.off hO (fun z => by rcases z with z | z <;> first | exact ne_h_x0r0_had2 z | exact ne_h_x0r0_had4 z)
  have h_x0r1 := h_x0r1.off hO (fun z => by rcases z with z | z <;> first | exact ne_h_x0r1_had2 z | exact ne_h_x0r1_had4 z)
  have h_x0r2 := h_x0r2.off hO (fun z => by rcases z with z | z <;> first | exact ne_h_x0r2_had2 z | exact ne_h_x0r2_had4 z)
  have hF := hF.fresh hO (fun a ha z => by
    rcases z with z | z
    · exact absurd (z ▸ ha) (Nat.not_lt.mpr gad2)
    · exact absurd (z ▸ ha) (Nat.not_lt.mpr gad4))
  refine lv_bipush (v := 32) hx hb dX1_heightText_36 (by decide) ?_
  obtain ⟨o13, eo13, h⟩ := bind_step h
  refine r_cr (r_runV (rest := []) (As := [.int 32]) hC 1 (m_J22_append_3_A ad2 ad4  o3.1 o11.2 o11.1 32 o13 eo13) q983 q984 q985 q64 q986 (OA.recv hS had2.OA (C := RJ22) rfl) hd_J22_append_3_A rfl ⟨Nat.le_of_ble_eq_true rfl, Nat.le_of_ble_eq_true rfl⟩ hS ⟨had2, hB_had2, had4, lo3_1, hB_had4, ne_had2_had4⟩ hl.1 rfl (Nat.le_of_ble_eq_true rfl) dX1_heightText_38 ⟨Nat.le_of_ble_eq_true rfl, Nat.le_of_ble_eq_true rfl⟩) hS (fun b H locs hp hS hz => ?_)
  obtain ⟨eb_, had2, had4, hO⟩ := hp
  rw [eb_]
  have h_x0 := h_x0.off hO (fun z => by rcases z with z | z <;> first | exact ne_h_x0_had2 z | exact ne_h_x0_had4 z)
  have h_x0r0 := h_x0r0.off hO (fun z => by rcases z with z | z <;> first | exact ne_h_x0r0_had2 z | exact ne_h_x0r0_had4 z)
  have h_x0r1 := h_x0r1.off hO (fun z => by rcases z with z | z <;> first | exact ne_h_x0r1_had2 z | exact ne_h_x0r1_had4 z)
  have h_x0r2 := h_x0r2.off hO (fun z => by rcases z with z | z <;> first | exact ne_h_x0r2_had2 z | exact ne_h_x0r2_had4 z)
  have hF := hF.fresh hO (fun a ha z => by
    rcases z with z | z
    · exact absurd (z ▸ ha) (Nat.not_lt.mpr gad2)
    · exact absurd (z ▸ ha) (Nat.not_lt.mpr gad4))
  refine lv_pop hx hb dX1_heightText_41 rfl ?_
  refine lv_aload hx hb dX1_heightText_42 (lv_at hl 0 rfl) ?_
  refine lv_dload_n hx hb dX1_heightText_44 rfl (lv_at hl 1 rfl) ?_
  obtain ⟨o15, eo15, h⟩ := bind_step h
  refine r_cp (r_runS (rest := [.ref ad2]) (As := [.double o1]) hC 1 (m_X1_fractionOf   o1 o15 eo15) q381 q382 q46 q383 hd_X1_fractionOf rfl ⟨Nat.le_of_ble_eq_true rfl, Nat.le_of_ble_eq_true rfl⟩ hS trivial hl.1 rfl (Nat.le_of_ble_eq_true rfl) dX1_heightText_45 ⟨Nat.le_of_ble_eq_true rfl, Nat.le_of_ble_eq_true rfl⟩) ?_
  refine lv_bipush (v := 32) hx hb dX1_heightText_48 (by decide) ?_
  obtain ⟨v16, ev16, h⟩ := ltl_step h
  refine r_lushr hx hb ev16 dX1_heightText_50 ?_
  rcases alt_step h with ⟨o17, eo17, h⟩ | h
  · refine r_cr (r_runV (rest := []) (As := [.long v16]) hC 1 (m_J22_append_4_A ad2 ad4  o3.1 o13.2 o13.1 v16 o17 eo17) q1005 q1006 q1007 q64 q1008 (OA.recv hS had2.OA (C := RJ22) rfl) hd_J22_append_4_A rfl ⟨Nat.le_of_ble_eq_true rfl, Nat.le_of_ble_eq_true rfl⟩ hS ⟨had2, hB_had2, had4, lo3_1, hB_had4, ne_had2_had4⟩ hl.1 rfl (Nat.le_of_ble_eq_true rfl) dX1_heightText_51 ⟨Nat.le_of_ble_eq_true rfl, Nat.le_of_ble_eq_true rfl⟩) hS (fun b H locs hp hS hz => ?_)
    obtain ⟨eb_, had2, had4, hO⟩ := hp
    rw [eb_]
    have h_x0 := h_x0.off hO (fun z => by rcases z with z | z <;> first | exact ne_h_x0_had2 z | exact ne_h_x0_had4 z)
    have h_x0r0 := h_x0r0.off hO (fun z => by rcases z with z | z <;> first | exact ne_h_x0r0_had2 z | exact ne_h_x0r0_had4 z)
    have h_x0r1 := h_x0r1.off hO (fun z => by rcases z with z | z <;> first | exact ne_h_x0r1_had2 z | exact ne_h_x0r1_had4 z)
    have h_x0r2 := h_x0r2.off hO (fun z => by rcases z with z | z <;> first | exact ne_h_x0r2_had2 z | exact ne_h_x0r2_had4 z)
    have hF := hF.fresh hO (fun a ha z => by
      rcases z with z | z
      · exact absurd (z ▸ ha) (Nat.not_lt.mpr gad2)
      · exact absurd (z ▸ ha) (Nat.not_lt.mpr gad4))
    obtain ⟨o19, eo19, h⟩ := bind_step h
    refine r_cr (r_runV (rest := []) (As := []) hC 0 (m_J22_toString ad2 ad4  o3.1 o17.2 o17.1 o19 eo19) q1032 q700 q701 q64 q702 (OA.recv hS had2.OA (C := RJ22) rfl) hd_J22_toString rfl ⟨Nat.le_of_ble_eq_true rfl, Nat.le_of_ble_eq_true rfl⟩ hS ⟨had2, had4, lo3_1⟩ hl.1 rfl (Nat.le_of_ble_eq_true rfl) dX1_heightText_54 ⟨Nat.le_of_ble_eq_true rfl, Nat.le_of_ble_eq_true rfl⟩) hS (fun ad20 H locs hp hS hz => ?_)
    obtain ⟨ad21, had20, had21, lo19_1, frad21, frad20, ne_ad20_ad21, hO⟩ := hp
    have ne_h_x0_had20 : x0 ≠ ad20 := Nat.ne_of_lt (Nat.lt_of_lt_of_le h_x0.lt frad20)
    have ne_h_x0r0_had20 : x0r0 ≠ ad20 := Nat.ne_of_lt (Nat.lt_of_lt_of_le h_x0r0.lt frad20)
    have ne_h_x0r1_had20 : x0r1 ≠ ad20 := Nat.ne_of_lt (Nat.lt_of_lt_of_le h_x0r1.lt frad20)
    have ne_h_x0r2_had20 : x0r2 ≠ ad20 := Nat.ne_of_lt (Nat.lt_of_lt_of_le h_x0r2.lt frad20)
    have ne_had2_had20 : ad2 ≠ ad20 := Nat.ne_of_lt (Nat.lt_of_lt_of_le had2.lt frad20)
    have ne_had4_had20 : ad4 ≠ ad20 := Nat.ne_of_lt (Nat.lt_of_lt_of_le had4.lt frad20)
    have gad20 : s.heap.size ≤ ad20 := Nat.le_trans hF.1 frad20
    have hB_had20 : dB D ≤ ad20 := by have := hS0.1.2.2.1; omega
    have ne_h_x0_had21 : x0 ≠ ad21 := Nat.ne_of_lt (Nat.lt_of_lt_of_le h_x0.lt frad21)
    have ne_h_x0r0_had21 : x0r0 ≠ ad21 := Nat.ne_of_lt (Nat.lt_of_lt_of_le h_x0r0.lt frad21)
    have ne_h_x0r1_had21 : x0r1 ≠ ad21 := Nat.ne_of_lt (Nat.lt_of_lt_of_le h_x0r1.lt frad21)
    have ne_h_x0r2_had21 : x0r2 ≠ ad21 := Nat.ne_of_lt (Nat.lt_of_lt_of_le h_x0r2.lt frad21)
    have ne_had2_had21 : ad2 ≠ ad21 := Nat.ne_of_lt (Nat.lt_of_lt_of_le had2.lt frad21)
    have ne_had4_had21 : ad4 ≠ ad21 := Nat.ne_of_lt (Nat.lt_of_lt_of_le had4.lt frad21)
    have gad21 : s.heap.size ≤ ad21 := Nat.le_trans hF.1 frad21
    have hB_had21 : dB D ≤ ad21 := by have := hS0.1.2.2.1; omega
    have h_x0 := h_x0.ext hO
    have h_x0r0 := h_x0r0.ext hO
    have h_x0r1 := h_x0r1.ext hO
    have h_x0r2 := h_x0r2.ext hO
    have had2 := had2.ext hO
    have had4 := had4.ext hO
    have hF := hF.trans (hO.mono (fun _ _ z => z.elim))
    obtain rfl := Option.some.inj h
    rw [eQ]
    exact r_aret hx hb hr (Or.inl ⟨_, rfl⟩) hlk hS (Nat.le_of_ble_eq_true rfl) (Nat.le_of_ble_eq_true rfl) dX1_heightText_57 ⟨_, rfl, ad21, had20, had21, lo19_1, gad21, gad20, ne_ad20_ad21, hF⟩
  obtain ⟨o22, eo22, h⟩ := bind_step h
  have ltp_had2 := had2.lt
  refine r_cr (r_runV (rest := []) (As := [.long v16]) hC 1 (m_J22_append_4_B ad2 ad4  o3.1 o13.2 o13.1 v16 o22 eo22) q1005 q1006 q1007 q64 q1008 (OA.recv hS had2.OA (C := RJ22) rfl) hd_J22_append_4_B rfl ⟨Nat.le_of_ble_eq_true rfl, Nat.le_of_ble_eq_true rfl⟩ hS ⟨had2, hB_had2, had4, lo3_1, ne_had2_had4⟩ hl.1 rfl (Nat.le_of_ble_eq_true rfl) dX1_heightText_51 ⟨Nat.le_of_ble_eq_true rfl, Nat.le_of_ble_eq_true rfl⟩) hS (fun b H locs hp hS hz => ?_)
  obtain ⟨eb_, ad24, had2, had24, lo22_2_1, frad24, hO⟩ := hp
  rw [eb_]
  have ne_h_x0_had24 : x0 ≠ ad24 := Nat.ne_of_lt (Nat.lt_of_lt_of_le h_x0.lt frad24)
  have ne_h_x0r0_had24 : x0r0 ≠ ad24 := Nat.ne_of_lt (Nat.lt_of_lt_of_le h_x0r0.lt frad24)
  have ne_h_x0r1_had24 : x0r1 ≠ ad24 := Nat.ne_of_lt (Nat.lt_of_lt_of_le h_x0r1.lt frad24)
  have ne_h_x0r2_had24 : x0r2 ≠ ad24 := Nat.ne_of_lt (Nat.lt_of_lt_of_le h_x0r2.lt frad24)
  have ne_had2_had24 : ad2 ≠ ad24 := Nat.ne_of_lt (Nat.lt_of_lt_of_le ltp_had2 frad24)
  have ne_had4_had24 : ad4 ≠ ad24 := Nat.ne_of_lt (Nat.lt_of_lt_of_le had4.lt frad24)
  have gad24 : s.heap.size ≤ ad24 := Nat.le_trans hF.1 frad24
  have hB_had24 : dB D ≤ ad24 := by have := hS0.1.2.2.1; omega
  have h_x0 := h_x0.off hO ne_h_x0_had2
  have h_x0r0 := h_x0r0.off hO ne_h_x0r0_had2
  have h_x0r1 := h_x0r1.off hO ne_h_x0r1_had2
  have h_x0r2 := h_x0r2.off hO ne_h_x0r2_had2
  have had4 := had4.off hO (Ne.symm ne_had2_had4)
  have hF := hF.fresh hO (fun a ha z => absurd (z ▸ ha) (Nat.not_lt.mpr gad2))
  obtain ⟨o25, eo25, h⟩ := bind_step h
  refine r_cr (r_runV (rest := []) (As := []) hC 0 (m_J22_toString ad2 ad24  o22.2.1 o22.2.2 o22.1 o25 eo25) q1032 q700 q701 q64 q702 (OA.recv hS had2.OA (C := RJ22) rfl) hd_J22_toString rfl ⟨Nat.le_of_ble_eq_true rfl, Nat.le_of_ble_eq_true rfl⟩ hS ⟨had2, had24, lo22_2_1⟩ hl.1 rfl (Nat.le_of_ble_eq_true rfl) dX1_heightText_54 ⟨Nat.le_of_ble_eq_true rfl, Nat.le_of_ble_eq_true rfl⟩) hS (fun ad26 H locs hp hS hz => ?_)
  obtain ⟨ad27, had26, had27, lo25_1, frad27, frad26, ne_ad26_ad27, hO⟩ := hp
  have ne_h_x0_had26 : x0 ≠ ad26 := Nat.ne_of_lt (Nat.lt_of_lt_of_le h_x0.lt frad26)
  have ne_h_x0r0_had26 : x0r0 ≠ ad26 := Nat.ne_of_lt (Nat.lt_of_lt_of_le h_x0r0.lt frad26)
  have ne_h_x0r1_had26 : x0r1 ≠ ad26 := Nat.ne_of_lt (Nat.lt_of_lt_of_le h_x0r1.lt frad26)
  have ne_h_x0r2_had26 : x0r2 ≠ ad26 := Nat.ne_of_lt (Nat.lt_of_lt_of_le h_x0r2.lt frad26)
  have ne_had2_had26 : ad2 ≠ ad26 := Nat.ne_of_lt (Nat.lt_of_lt_of_le had2.lt frad26)
  have ne_had4_had26 : ad4 ≠ ad26 := Nat.ne_of_lt (Nat.lt_of_lt_of_le had4.lt frad26)
  have ne_had24_had26 : ad24 ≠ ad26 := Nat.ne_of_lt (Nat.lt_of_lt_of_le had24.lt frad26)
  have gad26 : s.heap.size ≤ ad26 := Nat.le_trans hF.1 frad26
  have hB_had26 : dB D ≤ ad26 := by have := hS0.1.2.2.1; omega
  have ne_h_x0_had27 : x0 ≠ ad27 := Nat.ne_of_lt (Nat.lt_of_lt_of_le h_x0.lt frad27)
  have ne_h_x0r0_had27 : x0r0 ≠ ad27 := Nat.ne_of_lt (Nat.lt_of_lt_of_le h_x0r0.lt frad27)
  have ne_h_x0r1_had27 : x0r1 ≠ ad27 := Nat.ne_of_lt (Nat.lt_of_lt_of_le h_x0r1.lt frad27)
  have ne_h_x0r2_had27 : x0r2 ≠ ad27 := Nat.ne_of_lt (Nat.lt_of_lt_of_le h_x0r2.lt frad27)
  have ne_had2_had27 : ad2 ≠ ad27 := Nat.ne_of_lt (Nat.lt_of_lt_of_le had2.lt frad27)
  have ne_had4_had27 : ad4 ≠ ad27 := Nat.ne_of_lt (Nat.lt_of_lt_of_le had4.lt frad27)
  have ne_had24_had27 : ad24 ≠ ad27 := Nat.ne_of_lt (Nat.lt_of_lt_of_le had24.lt frad27)
  have gad27 : s.heap.size ≤ ad27 := Nat.le_trans hF.1 frad27
  have hB_had27 : dB D ≤ ad27 := by have := hS0.1.2.2.1; omega
  have h_x0 := h_x0.ext hO
  have h_x0r0 := h_x0r0.ext hO
  have h_x0r1 := h_x0r1.ext hO
  have h_x0r2 := h_x0r2.ext hO
  have had2 := had2.ext hO
  have had4 := had4.ext hO
  have had24 := had24.ext hO
  have hF := hF.trans (hO.mono (fun _ _ z => z.elim))
  obtain rfl := Option.some.inj h
  rw [eQ]
  exact r_aret hx hb hr (Or.inl ⟨_, rfl⟩) hlk hS (Nat.le_of_ble_eq_true rfl) (Nat.le_of_ble_eq_true rfl) dX1_heightText_57 ⟨_, rfl, ad27, had26, had27, lo25_1, gad27, gad26, ne_ad26_ad27, hF⟩

abbrev R_X1_flip : Room := { frames := 5, cells := 0, slots := 0, locals := 113 }
noncomputable def f_X1_flip (x0r0c : Nat → UInt64) (x0r1c : Nat → UInt64) (x0r2c : Nat → Int32) (x0f3 : Int32) (x0f4 : Int32) (x0f5 : Int32) (x0f6 : Int32) (x1 : Int32) : Option (Int32 × Int32 × (Nat → UInt64)) :=
  Option.bind (f_X1_heightAt x0r0c x0r1c x0r2c x0f3 x0f4 x0f5 x0f6 x1) fun o1 =>
  ltd (FP.dneg o1) fun v2 =>
  Option.bind (f_X1_heightPut x0r0c x0r1c x0r2c x0f3 x0f4 x0f5 x0f6 x1 v2) fun o3 =>
  gd 8 x1 fun i4 =>
  ltd (o3.2.2 i4) fun v5 =>
  Option.bind (f_X1_signOf v5) fun o6 =>
  some (o6, o3.2.1, o3.2.2)
theorem hd_X1_flip : Hd yX1_flip 1 := by unfold Hd; decide +kernel
set_option maxHeartbeats 4000000 in
set_option maxRecDepth 100000 in
theorem m_X1_flip {l : Launch} {D : DD} (x0 : Nat) (x0r0 : Nat) (x0r1 : Nat) (x0r2 : Nat)  (x0r0c : Nat → UInt64) (x0r1c : Nat → UInt64) (x0r2c : Nat → Int32) (x0f3 : Int32) (x0f4 : Int32) (x0f5 : Int32) (x0f6 : Int32) (x1 : Int32) (r : Int32 × Int32 × (Nat → UInt64)) (h : f_X1_flip x0r0c x0r1c x0r2c x0f3 x0f4 x0f5 x0f6 x1 = some r) : MT l D yX1_flip cX1_flip 2 (some .int) 5 113 0 0 [.ref x0, .int x1] (fun H => ON D 0 x0 [.ref x0r0, .ref x0r1, .ref x0r2, .int x0f3, .int x0f4, .int x0f5, .int x0f6] H ∧ dB D ≤ x0 ∧ aD D x0r0 8 x0r0c H ∧ aD D x0r1 8 x0r1c H ∧ dB D ≤ x0r1 ∧ aZ D x0r2 8 x0r2c H ∧ x0 ≠ x0r0 ∧ x0 ≠ x0r1 ∧ x0 ≠ x0r2 ∧ x0r0 ≠ x0r1 ∧ x0r1 ≠ x0r2) (pI (fun H b H' => b = r.1 ∧ ON D 0 x0 [.ref x0r0, .ref x0r1, .ref x0r2, .int x0f3, .int r.2.1, .int x0f5, .int x0f6] H' ∧ aD D x0r1 8 r.2.2 H' ∧ Off (fun a => a = x0 ∨ a = x0r1) H H')) := by
  refine MT.start (by decide +kernel) (Nat.le_of_ble_eq_true rfl) ?_
  intro p e s m below meth c ls hC hS hp hl
  obtain ⟨h_x0, hB_h_x0, h_x0r0, h_x0r1, hB_h_x0r1, h_x0r2, ne_x0_x0r0, ne_x0_x0r1, ne_x0_x0r2, ne_x0r0_x0r1, ne_x0r1_x0r2⟩ := hp
  obtain ⟨hx, hb, hr, hlk, hml, hown, hts, hnm⟩ := id hC
  have hl : lv_has ls 2 [(0, .ref x0), (1, .int x1)] := hl
  unfold f_X1_flip at h
  have hS0 := hS
  obtain ⟨A, eA⟩ : ∃ A : Array Value, A = [.ref x0, .int x1].toArray := ⟨_, rfl⟩
  rw [← eA] at hC hts ⊢
  obtain ⟨Q, eQ⟩ : ∃ Q : State → Prop, Q = MQ below (TQ D (pI (fun H b H' => b = r.1 ∧ ON D 0 x0 [.ref x0r0, .ref x0r1, .ref x0r2, .int x0f3, .int r.2.1, .int x0f5, .int x0f6] H' ∧ aD D x0r1 8 r.2.2 H' ∧ Off (fun a => a = x0 ∨ a = x0r1) H H'))) A s 0 0 (fun q => dB D ≤ q) := ⟨_, rfl⟩
  have hF : Off (fun a => a = x0 ∨ a = x0r1) s.heap s.heap := Off.rf
  show W p l e R_X1_flip s m A below meth c s.heap [] 0 0 _ _
  rw [← eQ]
  obtain ⟨H, eH⟩ : ∃ H : Heap, H = s.heap := ⟨_, rfl⟩
  obtain ⟨locs, eLc⟩ : ∃ L : List Loc, L = [] := ⟨_, rfl⟩
  have lt_h_x0 := h_x0.lt
  have lt_h_x0r0 := h_x0r0.lt
  have lt_h_x0r1 := h_x0r1.lt
  have lt_h_x0r2 := h_x0r2.lt
  rw [← eH, ← eLc]
  have hF : Off (fun a => a = x0 ∨ a = x0r1) s.heap H := by rw [eH]; exact hF
  rw [← eH] at h_x0
  rw [← eH] at h_x0r0
  rw [← eH] at h_x0r1
  rw [← eH] at h_x0r2
  have hS : St D s H locs := by rw [eH, eLc]; exact hS
  refine lv_aload_n hx hb dX1_flip_0 rfl (lv_at hl 0 rfl) ?_
  refine lv_iload_n hx hb dX1_flip_1 rfl (lv_at hl 1 rfl) ?_
  refine lv_aload_n hx hb dX1_flip_2 rfl (lv_at hl 0 rfl) ?_
  refine lv_iload_n hx hb dX1_flip_3 rfl (lv_at hl 1 rfl) ?_
  obtain ⟨o1, eo1, h⟩ := bind_step h
  refine r_cp (r_runV (rest := [.int x1, .ref x0]) (As := [.int x1]) hC 1 (m_X1_heightAt x0 x0r0 x0r1 x0r2  x0r0c x0r1c x0r2c x0f3 x0f4 x0f5 x0f6 x1 o1 eo1) q1202 q1204 qs13 q46 q1205 (OA.recv hS h_x0.OA (C := RX1) rfl) hd_X1_heightAt rfl ⟨Nat.le_of_ble_eq_true rfl, Nat.le_of_ble_eq_true rfl⟩ hS ⟨h_x0, h_x0r0, h_x0r1, h_x0r2⟩ hl.1 rfl (Nat.le_of_ble_eq_true rfl) dX1_flip_4 ⟨Nat.le_of_ble_eq_true rfl, Nat.le_of_ble_eq_true rfl⟩) ?_
  obtain ⟨v2, ev2, h⟩ := ltd_step h
  refine r_dneg hx hb ev2 dX1_flip_7 ?_
  obtain ⟨o3, eo3, h⟩ := bind_step h
  refine r_ci (r_runV (rest := []) (As := [.int x1, .double v2]) hC 2 (m_X1_heightPut x0 x0r0 x0r1 x0r2  x0r0c x0r1c x0r2c x0f3 x0f4 x0f5 x0f6 x1 v2 o3 eo3) q1377 q1379 qs24 q46 q1380 (OA.recv hS h_x0.OA (C := RX1) rfl) hd_X1_heightPut rfl ⟨Nat.le_of_ble_eq_true rfl, Nat.le_of_ble_eq_true rfl⟩ hS ⟨h_x0, hB_h_x0, h_x0r0, h_x0r1, hB_h_x0r1, h_x0r2, ne_x0_x0r0, ne_x0_x0r1, ne_x0_x0r2, ne_x0r0_x0r1, ne_x0r1_x0r2⟩ hl.1 rfl (Nat.le_of_ble_eq_true rfl) dX1_flip_8 ⟨Nat.le_of_ble_eq_true rfl, Nat.le_of_ble_eq_true rfl⟩) hS (fun b H locs hp hS hz => ?_)
  obtain ⟨rfl, h_x0, h_x0r1, hO⟩ := hp
  have h_x0r0 := h_x0r0.off hO (fun z => by rcases z with z | z <;> first | exact (Ne.symm ne_x0_x0r0) z | exact ne_x0r0_x0r1 z)
  have h_x0r2 := h_x0r2.off hO (fun z => by rcases z with z | z <;> first | exact (Ne.symm ne_x0_x0r2) z | exact (Ne.symm ne_x0r1_x0r2) z)
  have hF := hF.fresh hO (fun a ha z => by
    rcases z with z | z
    · exact Or.inl z
    · exact Or.inr (z))
  refine lv_pop hx hb dX1_flip_11 rfl ?_
  refine lv_aload_n hx hb dX1_flip_12 rfl (lv_at hl 0 rfl) ?_
  refine r_get hx hb hts hown hS h_x0.OA rfl in_X1 1 (by decide) q915 rfl (v := .ref x0r1) rfl dX1_flip_13 ?_
  refine lv_iload_n hx hb dX1_flip_16 rfl (lv_at hl 1 rfl) ?_
  obtain ⟨i4, xi4, h⟩ := gd_step (by decide) h
  refine r_dald hx hb hS h_x0r1 i4 xi4 dX1_flip_17 ?_
  obtain ⟨v5, ev5, h⟩ := ltd_step h
  refine r_nmD ev5 ?_
  obtain ⟨o6, eo6, h⟩ := bind_step h
  refine r_cp (r_runS (rest := []) (As := [.double v5]) hC 1 (m_X1_signOf   v5 o6 eo6) q386 q387 q46 q388 hd_X1_signOf rfl ⟨Nat.le_of_ble_eq_true rfl, Nat.le_of_ble_eq_true rfl⟩ hS trivial hl.1 rfl (Nat.le_of_ble_eq_true rfl) dX1_flip_18 ⟨Nat.le_of_ble_eq_true rfl, Nat.le_of_ble_eq_true rfl⟩) ?_
  obtain rfl := Option.some.inj h
  rw [eQ]
  exact r_iret hx hb hr hlk hS (Nat.le_of_ble_eq_true rfl) (Nat.le_of_ble_eq_true rfl) dX1_flip_21 ⟨_, rfl, rfl, h_x0, h_x0r1, hF⟩

abbrev R_X1_isMirrored : Room := { frames := 10, cells := 14, slots := 172, locals := 1433 }
noncomputable def f_X1_isMirrored (x0r0c : Nat → UInt64) (x0r1c : Nat → UInt64) (x0r2c : Nat → Int32) (x0f3 : Int32) (x0f4 : Int32) (x0f5 : Int32) (x0f6 : Int32) (x1 : Int32) (x2 : Int32) (x3 : Int32) : Option (Bool) :=
  Option.bind (f_X1_angleAt x0r0c x0r1c x0r2c x0f3 x0f4 x0f5 x0f6 x1) fun o1 =>
  Option.bind (f_X1_isIn x2 0 2) fun o2 =>
  lt (fun (v3 : Bool) =>
  Option.bind (f_X1_mustFit v3) fun o5 =>
  ltd (FP.dneg o1) fun v6 =>
  Option.bind (f_X1_answer x2 v6) fun o7 =>
  Option.bind (f_X1_answer x2 o1) fun o8 =>
  (if x3 = 0 then
    Option.bind (f_X1_isMirror x2 o7 o8) fun o22 =>
    some o22
  else
    lt (fun (v10 : UInt64) =>
    (if x3 = 1 then
      Option.bind (f_X1_orderOf o7 v10 0) fun o18 =>
      (if o18 = 0 then
        some true
      else
        some false
      )
    else
      Option.bind (f_J10_valueOf o7) fun o13 =>
      Option.bind (f_J10_valueOf v10) fun o15 =>
      Option.bind (f_X1_isSameBy o13 o15 0) fun o17 =>
      some o17
    )
    ) fun K11 =>
    (if x2 = 1 then
      K11 o8
    else
      ltd (FP.dneg o8) fun v21 =>
      K11 v21
    )
  )
  ) fun K4 =>
  lt (fun (_u : Unit) =>
  K4 false
  ) fun K23 =>
  (if o2 = true then
    Option.bind (f_X1_isIn x3 0 2) fun o25 =>
    (if o25 = true then
      K4 true
    else
      K23 ()
    )
  else
    K23 ()
  )
theorem hd_X1_isMirrored : Hd yX1_isMirrored 3 := by unfold Hd; decide +kernel
set_option maxHeartbeats 4000000 in
set_option maxRecDepth 100000 in
theorem m_X1_isMirrored {l : Launch} {D : DD} (x0 : Nat) (x0r0 : Nat) (x0r1 : Nat) (x0r2 : Nat)  (x0r0c : Nat → UInt64) (x0r1c : Nat → UInt64) (x0r2c : Nat → Int32) (x0f3 : Int32) (x0f4 : Int32) (x0f5 : Int32) (x0f6 : Int32) (x1 : Int32) (x2 : Int32) (x3 : Int32) (r : Bool) (h : f_X1_isMirrored x0r0c x0r1c x0r2c x0f3 x0f4 x0f5 x0f6 x1 x2 x3 = some r) : MT l D yX1_isMirrored cX1_isMirrored 12 (some .boolean) 10 1433 14 172 [.ref x0, .int x1, .int x2, .int x3] (fun H => ON D 0 x0 [.ref x0r0, .ref x0r1, .ref x0r2, .int x0f3, .int x0f4, .int x0f5, .int x0f6] H ∧ aD D x0r0 8 x0r0c H ∧ aD D x0r1 8 x0r1c H ∧ aZ D x0r2 8 x0r2c H) (pZ (fun H b H' => b = r ∧ Off (fun _ => False) H H')) := by
  refine MT.start (by decide +kernel) (Nat.le_of_ble_eq_true rfl) ?_
  intro p e s m below meth c ls hC hS hp hl
  obtain ⟨h_x0, h_x0r0, h_x0r1, h_x0r2⟩ := hp
  obtain ⟨hx, hb, hr, hlk, hml, hown, hts, hnm⟩ := id hC
  have hl : lv_has ls 12 [(0, .ref x0), (1, .int x1), (2, .int x2), (3, .int x3)] := hl
  unfold f_X1_isMirrored at h
  have hS0 := hS
  obtain ⟨A, eA⟩ : ∃ A : Array Value, A = [.ref x0, .int x1, .int x2, .int x3].toArray := ⟨_, rfl⟩
  rw [← eA] at hC hts ⊢
  obtain ⟨Q, eQ⟩ : ∃ Q : State → Prop, Q = MQ below (TQ D (pZ (fun H b H' => b = r ∧ Off (fun _ => False) H H'))) A s 14 172 (fun q => dB D ≤ q) := ⟨_, rfl⟩
  have hF : Off (fun _ => False) s.heap s.heap := Off.rf
  show W p l e R_X1_isMirrored s m A below meth c s.heap [] 0 0 _ _
  rw [← eQ]
  obtain ⟨H, eH⟩ : ∃ H : Heap, H = s.heap := ⟨_, rfl⟩
  obtain ⟨locs, eLc⟩ : ∃ L : List Loc, L = [] := ⟨_, rfl⟩
  have lt_h_x0 := h_x0.lt
  have lt_h_x0r0 := h_x0r0.lt
  have lt_h_x0r1 := h_x0r1.lt
  have lt_h_x0r2 := h_x0r2.lt
  rw [← eH, ← eLc]
  have hF : Off (fun _ => False) s.heap H := by rw [eH]; exact hF
  rw [← eH] at h_x0
  rw [← eH] at h_x0r0
  rw [← eH] at h_x0r1
  rw [← eH] at h_x0r2
  have hS : St D s H locs := by rw [eH, eLc]; exact hS
  refine lv_aload_n hx hb dX1_isMirrored_0 rfl (lv_at hl 0 rfl) ?_
  refine lv_iload_n hx hb dX1_isMirrored_1 rfl (lv_at hl 1 rfl) ?_
  obtain ⟨o1, eo1, h⟩ := bind_step h
  refine r_cp (r_runV (rest := []) (As := [.int x1]) hC 1 (m_X1_angleAt x0 x0r0 x0r1 x0r2  x0r0c x0r1c x0r2c x0f3 x0f4 x0f5 x0f6 x1 o1 eo1) q952 q954 qs11 q46 q955 (OA.recv hS h_x0.OA (C := RX1) rfl) hd_X1_angleAt rfl ⟨Nat.le_of_ble_eq_true rfl, Nat.le_of_ble_eq_true rfl⟩ hS ⟨h_x0, h_x0r0, h_x0r1, h_x0r2⟩ hl.1 rfl (Nat.le_of_ble_eq_true rfl) dX1_isMirrored_2 ⟨Nat.le_of_ble_eq_true rfl, Nat.le_of_ble_eq_true rfl⟩) ?_
  refine lv_dstore (lv' := [(4, .double o1), (0, .ref x0), (1, .int x1), (2, .int x2), (3, .int x3)]) hx hb dX1_isMirrored_5 hl (by decide) rfl (fun ls hl => ?_)
  refine lv_iload_n hx hb dX1_isMirrored_7 rfl (lv_at hl 3 rfl) ?_
  refine lv_iconst (v := 0) hx hb dX1_isMirrored_8 (by decide) ?_
  refine lv_iconst (v := 2) hx hb dX1_isMirrored_9 (by decide) ?_
  obtain ⟨o2, eo2, h⟩ := bind_step h
  refine r_cp (r_runS (rest := []) (As := [.int x2, .int 0, .int 2]) hC 3 (m_X1_isIn   x2 0 2 o2 eo2) q395 q396 q46 q397 hd_X1_isIn rfl ⟨Nat.le_of_ble_eq_true rfl, Nat.le_of_ble_eq_true rfl⟩ hS trivial hl.1 rfl (Nat.le_of_ble_eq_true rfl) dX1_isMirrored_10 ⟨Nat.le_of_ble_eq_true rfl, Nat.le_of_ble_eq_true rfl⟩) ?_
  obtain ⟨K4, eK4, h⟩ := lt_step h
  have HK4 : ∀ (v3 : Bool) (h : K4 v3 = some r) (H : Heap) (locs : List Loc) (hS : St D s H locs) (hF : Off (fun _ => False) s.heap H) (h_x0 : ON D 0 x0 [.ref x0r0, .ref x0r1, .ref x0r2, .int x0f3, .int x0f4, .int x0f5, .int x0f6] H) (h_x0r0 : aD D x0r0 8 x0r0c H) (h_x0r1 : aD D x0r1 8 x0r1c H) (h_x0r2 : aZ D x0r2 8 x0r2c H) (ls : Array Slot) (hl : lv_has ls 12 [(2, .int x2), (3, .int x3), (4, .double o1)]), W p l e R_X1_isMirrored s m A below meth c H locs 0 0 Q (F0 m 30 ls [.int (bI v3)]) := by
    intro v3 h H locs hS hF h_x0 h_x0r0 h_x0r1 h_x0r2 ls hl
    subst eK4
    obtain ⟨o5, eo5, h⟩ := bind_step h
    refine r_cpv (r_runS (rest := []) (As := [.int (bI v3)]) hC 1 (m_X1_mustFit   v3 o5 eo5) q1230 q1231 q46 q1232 hd_X1_mustFit rfl ⟨Nat.le_of_ble_eq_true rfl, Nat.le_of_ble_eq_true rfl⟩ hS trivial hl.1 rfl (Nat.le_of_ble_eq_true rfl) dX1_isMirrored_30 ⟨Nat.le_of_ble_eq_true rfl, Nat.le_of_ble_eq_true rfl⟩) ?_
    refine lv_iload_n hx hb dX1_isMirrored_33 rfl (lv_at hl 0 rfl) ?_
    refine lv_dload hx hb dX1_isMirrored_34 (lv_at hl 2 rfl) ?_
    obtain ⟨v6, ev6, h⟩ := ltd_step h
    refine r_dneg hx hb ev6 dX1_isMirrored_36 ?_
    obtain ⟨o7, eo7, h⟩ := bind_step h
    refine r_cd (r_runS (rest := []) (As := [.int x2, .double v6]) hC 2 (m_X1_answer   x2 v6 o7 eo7) q1336 q1337 q46 q1338 hd_X1_answer rfl ⟨Nat.le_of_ble_eq_true rfl, Nat.le_of_ble_eq_true rfl⟩ hS trivial hl.1 rfl (Nat.le_of_ble_eq_true rfl) dX1_isMirrored_37 ⟨Nat.le_of_ble_eq_true rfl, Nat.le_of_ble_eq_true rfl⟩) hS (fun b H locs hp hS hz => ?_)
    obtain ⟨eb_, hO⟩ := hp
    rw [eb_]
    have h_x0 := h_x0.ext hO
    have h_x0r0 := h_x0r0.ext hO
    have h_x0r1 := h_x0r1.ext hO
    have h_x0r2 := h_x0r2.ext hO
    have hF := hF.trans (hO.mono (fun _ _ z => z.elim))
    refine lv_dstore (lv' := [(6, .double o7), (2, .int x2), (3, .int x3), (4, .double o1)]) hx hb dX1_isMirrored_40 hl (by decide) rfl (fun ls hl => ?_)
    refine lv_iload_n hx hb dX1_isMirrored_42 rfl (lv_at hl 1 rfl) ?_
    refine lv_dload hx hb dX1_isMirrored_43 (lv_at hl 3 rfl) ?_
    obtain ⟨o8, eo8, h⟩ := bind_step h
    refine r_cd (r_runS (rest := []) (As := [.int x2, .double o1]) hC 2 (m_X1_answer   x2 o1 o8 eo8) q1336 q1337 q46 q1338 hd_X1_answer rfl ⟨Nat.le_of_ble_eq_true rfl, Nat.le_of_ble_eq_true rfl⟩ hS trivial hl.1 rfl (Nat.le_of_ble_eq_true rfl) dX1_isMirrored_45 ⟨Nat.le_of_ble_eq_true rfl, Nat.le_of_ble_eq_true rfl⟩) hS (fun b H locs hp hS hz => ?_)
    obtain ⟨eb_, hO⟩ := hp
    rw [eb_]
    have h_x0 := h_x0.ext hO
    have h_x0r0 := h_x0r0.ext hO
    have h_x0r1 := h_x0r1.ext hO
    have h_x0r2 := h_x0r2.ext hO
    have hF := hF.trans (hO.mono (fun _ _ z => z.elim))
    refine lv_dstore (lv' := [(8, .double o8), (6, .double o7), (2, .int x2), (3, .int x3), (4, .double o1)]) hx hb dX1_isMirrored_48 hl (by decide) rfl (fun ls hl => ?_)
    refine lv_iload_n hx hb dX1_isMirrored_50 rfl (lv_at hl 3 rfl) ?_
    refine lv_if_ne (tgt := 63) hx hb dX1_isMirrored_51 (by decide) (fun c9 => ?_) (fun c9 => ?_)
    · have h := it_neg h c9
      refine lv_iload_n hx hb dX1_isMirrored_63 rfl (lv_at hl 2 rfl) ?_
      refine lv_iconst (v := 1) hx hb dX1_isMirrored_64 (by decide) ?_
      obtain ⟨K11, eK11, h⟩ := lt_step h
      have HK11 : ∀ (v10 : UInt64) (h : K11 v10 = some r) (H : Heap) (locs : List Loc) (hS : St D s H locs) (hF : Off (fun _ => False) s.heap H) (h_x0 : ON D 0 x0 [.ref x0r0, .ref x0r1, .ref x0r2, .int x0f3, .int x0f4, .int x0f5, .int x0f6] H) (h_x0r0 : aD D x0r0 8 x0r0c H) (h_x0r1 : aD D x0r1 8 x0r1c H) (h_x0r2 : aZ D x0r2 8 x0r2c H) (ls : Array Slot) (hl : lv_has ls 12 [(3, .int x3), (6, .double o7)]), W p l e R_X1_isMirrored s m A below meth c H locs 12 170 Q (F0 m 76 ls [.double v10]) := by
        intro v10 h H locs hS hF h_x0 h_x0r0 h_x0r1 h_x0r2 ls hl
        subst eK11
        refine lv_dstore (lv' := [(10, .double v10), (3, .int x3), (6, .double o7)]) hx hb dX1_isMirrored_76 hl (by decide) rfl (fun ls hl => ?_)
        refine lv_iload_n hx hb dX1_isMirrored_78 rfl (lv_at hl 1 rfl) ?_
        refine lv_iconst (v := 1) hx hb dX1_isMirrored_79 (by decide) ?_
        refine lv_icmp_ne (tgt := 102) hx hb dX1_isMirrored_80 (by decide) (fun c12 => ?_) (fun c12 => ?_)
        · have h := it_neg h c12
          refine lv_dload hx hb dX1_isMirrored_102 (lv_at hl 2 rfl) ?_
          obtain ⟨o13, eo13, h⟩ := bind_step h
          refine r_cr (r_runS (rest := []) (As := [.double o7]) hC 1 (m_J10_valueOf   o7 o13 eo13) q1301 q1302 q51 q1303 hd_J10_valueOf rfl ⟨Nat.le_of_ble_eq_true rfl, Nat.le_of_ble_eq_true rfl⟩ hS trivial hl.1 rfl (Nat.le_of_ble_eq_true rfl) dX1_isMirrored_104 ⟨Nat.le_of_ble_eq_true rfl, Nat.le_of_ble_eq_true rfl⟩) hS (fun ad14 H locs hp hS hz => ?_)
          obtain ⟨had14, frad14, hO⟩ := hp
          have ne_h_x0_had14 : x0 ≠ ad14 := Nat.ne_of_lt (Nat.lt_of_lt_of_le h_x0.lt frad14)
          have ne_h_x0r0_had14 : x0r0 ≠ ad14 := Nat.ne_of_lt (Nat.lt_of_lt_of_le h_x0r0.lt frad14)
          have ne_h_x0r1_had14 : x0r1 ≠ ad14 := Nat.ne_of_lt (Nat.lt_of_lt_of_le h_x0r1.lt frad14)
          have ne_h_x0r2_had14 : x0r2 ≠ ad14 := Nat.ne_of_lt (Nat.lt_of_lt_of_le h_x0r2.lt frad14)
          have gad14 : s.heap.size ≤ ad14 := Nat.le_trans hF.1 frad14
          have hB_had14 : dB D ≤ ad14 := by have := hS0.1.2.2.1; omega
          have h_x0 := h_x0.ext hO
          have h_x0r0 := h_x0r0.ext hO
          have h_x0r1 := h_x0r1.ext hO
          have h_x0r2 := h_x0r2.ext hO
          have hF := hF.trans (hO.mono (fun _ _ z => z.elim))
          refine lv_dload hx hb dX1_isMirrored_107 (lv_at hl 0 rfl) ?_
          obtain ⟨o15, eo15, h⟩ := bind_step h
          refine r_cr (r_runS (rest := [.ref ad14]) (As := [.double v10]) hC 1 (m_J10_valueOf   v10 o15 eo15) q1301 q1302 q51 q1303 hd_J10_valueOf rfl ⟨Nat.le_of_ble_eq_true rfl, Nat.le_of_ble_eq_true rfl⟩ hS trivial hl.1 rfl (Nat.le_of_ble_eq_true rfl) dX1_isMirrored_109 ⟨Nat.le_of_ble_eq_true rfl, Nat.le_of_ble_eq_true rfl⟩) hS (fun ad16 H locs hp hS hz => ?_)
          obtain ⟨had16, frad16, hO⟩ := hp
          have ne_h_x0_had16 : x0 ≠ ad16 := Nat.ne_of_lt (Nat.lt_of_lt_of_le h_x0.lt frad16)
          have ne_h_x0r0_had16 : x0r0 ≠ ad16 := Nat.ne_of_lt (Nat.lt_of_lt_of_le h_x0r0.lt frad16)
          have ne_h_x0r1_had16 : x0r1 ≠ ad16 := Nat.ne_of_lt (Nat.lt_of_lt_of_le h_x0r1.lt frad16)
          have ne_h_x0r2_had16 : x0r2 ≠ ad16 := Nat.ne_of_lt (Nat.lt_of_lt_of_le h_x0r2.lt frad16)
          have ne_had14_had16 : ad14 ≠ ad16 := Nat.ne_of_lt (Nat.lt_of_lt_of_le had14.lt frad16)
          have gad16 : s.heap.size ≤ ad16 := Nat.le_trans hF.1 frad16
          have hB_had16 : dB D ≤ ad16 := by have := hS0.1.2.2.1; omega
          have h_x0 := h_x0.ext hO
          have h_x0r0 := h_x0r0.ext hO
          have h_x0r1 := h_x0r1.ext hO
          have h_x0r2 := h_x0r2.ext hO
          have had14 := had14.ext hO
          have hF := hF.trans (hO.mono (fun _ _ z => z.elim))
          refine lv_iconst (v := 0) hx hb dX1_isMirrored_112 (by decide) ?_
          obtain ⟨o17, eo17, h⟩ := bind_step h
          refine r_cp (r_runS (rest := []) (As := [.ref ad14, .ref ad16, .int 0]) hC 3 (m_X1_isSameBy ad14 ad16  o13 o15 0 o17 eo17) q1423 q1424 q46 q1425 hd_X1_isSameBy rfl ⟨Nat.le_of_ble_eq_true rfl, Nat.le_of_ble_eq_true rfl⟩ hS ⟨had14, had16, ne_had14_had16⟩ hl.1 rfl (Nat.le_of_ble_eq_true rfl) dX1_isMirrored_113 ⟨Nat.le_of_ble_eq_true rfl, Nat.le_of_ble_eq_true rfl⟩) ?_
          obtain rfl := Option.some.inj h
          rw [eQ]
          exact r_zret hx hb hr hlk hS (narB _) (Nat.le_of_ble_eq_true rfl) (Nat.le_of_ble_eq_true rfl) dX1_isMirrored_116 ⟨_, rfl, rfl, hF⟩
        · have h := it_pos h c12
          refine lv_dload hx hb dX1_isMirrored_83 (lv_at hl 2 rfl) ?_
          refine lv_dload hx hb dX1_isMirrored_85 (lv_at hl 0 rfl) ?_
          refine lv_iconst (v := 0) hx hb dX1_isMirrored_87 (by decide) ?_
          obtain ⟨o18, eo18, h⟩ := bind_step h
          refine r_ci (r_runS (rest := []) (As := [.double o7, .double v10, .int 0]) hC 3 (m_X1_orderOf   o7 v10 0 o18 eo18) q1291 q1292 q46 q1293 hd_X1_orderOf rfl ⟨Nat.le_of_ble_eq_true rfl, Nat.le_of_ble_eq_true rfl⟩ hS trivial hl.1 rfl (Nat.le_of_ble_eq_true rfl) dX1_isMirrored_88 ⟨Nat.le_of_ble_eq_true rfl, Nat.le_of_ble_eq_true rfl⟩) hS (fun b H locs hp hS hz => ?_)
          obtain ⟨eb_, hO⟩ := hp
          rw [eb_]
          have h_x0 := h_x0.ext hO
          have h_x0r0 := h_x0r0.ext hO
          have h_x0r1 := h_x0r1.ext hO
          have h_x0r2 := h_x0r2.ext hO
          have hF := hF.trans (hO.mono (fun _ _ z => z.elim))
          refine lv_if_ne (tgt := 98) hx hb dX1_isMirrored_91 (by decide) (fun c19 => ?_) (fun c19 => ?_)
          · have h := it_neg h c19
            refine lv_iconst (v := 0) hx hb dX1_isMirrored_98 (by decide) ?_
            refine lv_goto (tgt := 116) hx hb dX1_isMirrored_99 (by decide) ?_
            obtain rfl := Option.some.inj h
            rw [eQ]
            exact r_zret hx hb hr hlk hS (by decide) (Nat.le_of_ble_eq_true rfl) (Nat.le_of_ble_eq_true rfl) dX1_isMirrored_116 ⟨_, rfl, rfl, hF⟩
          · have h := it_pos h c19
            refine lv_iconst (v := 1) hx hb dX1_isMirrored_94 (by decide) ?_
            refine lv_goto (tgt := 116) hx hb dX1_isMirrored_95 (by decide) ?_
            obtain rfl := Option.some.inj h
            rw [eQ]
            exact r_zret hx hb hr hlk hS (by decide) (Nat.le_of_ble_eq_true rfl) (Nat.le_of_ble_eq_true rfl) dX1_isMirrored_116 ⟨_, rfl, rfl, hF⟩
      clear eK11
      refine lv_icmp_ne (tgt := 73) hx hb dX1_isMirrored_65 (by decide) (fun c20 => ?_) (fun c20 => ?_)
      · have h := it_neg h c20
        refine lv_dload hx hb dX1_isMirrored_73 (lv_at hl 0 rfl) ?_
        obtain ⟨v21, ev21, h⟩ := ltd_step h
        refine r_dneg hx hb ev21 dX1_isMirrored_75 ?_
        exact HK11 v21 h H locs hS hF h_x0 h_x0r0 h_x0r1 h_x0r2 ls (lv_sub hl [3, 1] rfl)
      · have h := it_pos h c20
        refine lv_dload hx hb dX1_isMirrored_68 (lv_at hl 0 rfl) ?_
        refine lv_goto (tgt := 76) hx hb dX1_isMirrored_70 (by decide) ?_
        exact HK11 o8 h H locs hS hF h_x0 h_x0r0 h_x0r1 h_x0r2 ls (lv_sub hl [3, 1] rfl)
    · have h := it_pos h c9
      refine lv_iload_n hx hb dX1_isMirrored_54 rfl (lv_at hl 2 rfl) ?_
      refine lv_dload hx hb dX1_isMirrored_55 (lv_at hl 1 rfl) ?_
      refine lv_dload hx hb dX1_isMirrored_57 (lv_at hl 0 rfl) ?_
      obtain ⟨o22, eo22, h⟩ := bind_step h
      refine r_cp (r_runS (rest := []) (As := [.int x2, .double o7, .double o8]) hC 3 (m_X1_isMirror   x2 o7 o8 o22 eo22) q402 q403 q46 q404 hd_X1_isMirror rfl ⟨Nat.le_of_ble_eq_true rfl, Nat.le_of_ble_eq_true rfl⟩ hS trivial hl.1 rfl (Nat.le_of_ble_eq_true rfl) dX1_isMirrored_59 ⟨Nat.le_of_ble_eq_true rfl, Nat.le_of_ble_eq_true rfl⟩) ?_
      obtain rfl := Option.some.inj h
      rw [eQ]
      exact r_zret hx hb hr hlk hS (narB _) (Nat.le_of_ble_eq_true rfl) (Nat.le_of_ble_eq_true rfl) dX1_isMirrored_62 ⟨_, rfl, rfl, hF⟩
  clear eK4
  obtain ⟨K23, eK23, h⟩ := lt_step h
  have HK23 : ∀  (h : K23 () = some r) (H : Heap) (locs : List Loc) (hS : St D s H locs) (hF : Off (fun _ => False) s.heap H) (h_x0 : ON D 0 x0 [.ref x0r0, .ref x0r1, .ref x0r2, .int x0f3, .int x0f4, .int x0f5, .int x0f6] H) (h_x0r0 : aD D x0r0 8 x0r0c H) (h_x0r1 : aD D x0r1 8 x0r1c H) (h_x0r2 : aZ D x0r2 8 x0r2c H) (ls : Array Slot) (hl : lv_has ls 12 [(2, .int x2), (3, .int x3), (4, .double o1)]), W p l e R_X1_isMirrored s m A below meth c H locs 0 0 Q (F0 m 29 ls []) := by
    intro h H locs hS hF h_x0 h_x0r0 h_x0r1 h_x0r2 ls hl
    subst eK23
    refine lv_iconst (v := 0) hx hb dX1_isMirrored_29 (by decide) ?_
    exact HK4 false h H locs hS hF h_x0 h_x0r0 h_x0r1 h_x0r2 ls (lv_sub hl [0, 1, 2] rfl)
  clear eK23
  refine r_ifz_eq (tgt := 29) hx hb dX1_isMirrored_13 (by decide) (fun c24 => ?_) (fun c24 => ?_)
  · have h := it_neg h (by rw [c24]; decide)
    exact HK23  h H locs hS hF h_x0 h_x0r0 h_x0r1 h_x0r2 ls (lv_sub hl [3, 4, 0] rfl)
  · have h := it_pos h (by rw [c24])
    refine lv_iload_n hx hb dX1_isMirrored_16 rfl (lv_at hl 4 rfl) ?_
    refine lv_iconst (v := 0) hx hb dX1_isMirrored_17 (by decide) ?_
    refine lv_iconst (v := 2) hx hb dX1_isMirrored_18 (by decide) ?_
    obtain ⟨o25, eo25, h⟩ := bind_step h
    refine r_cp (r_runS (rest := []) (As := [.int x3, .int 0, .int 2]) hC 3 (m_X1_isIn   x3 0 2 o25 eo25) q395 q396 q46 q397 hd_X1_isIn rfl ⟨Nat.le_of_ble_eq_true rfl, Nat.le_of_ble_eq_true rfl⟩ hS trivial hl.1 rfl (Nat.le_of_ble_eq_true rfl) dX1_isMirrored_19 ⟨Nat.le_of_ble_eq_true rfl, Nat.le_of_ble_eq_true rfl⟩) ?_
    refine r_ifz_eq (tgt := 29) hx hb dX1_isMirrored_22 (by decide) (fun c26 => ?_) (fun c26 => ?_)
    · have h := it_neg h (by rw [c26]; decide)
      exact HK23  h H locs hS hF h_x0 h_x0r0 h_x0r1 h_x0r2 ls (lv_sub hl [3, 4, 0] rfl)
    · have h := it_pos h (by rw [c26])
      refine lv_iconst (v := 1) hx hb dX1_isMirrored_25 (by decide) ?_
      refine lv_goto (tgt := 30) hx hb dX1_isMirrored_26 (by decide) ?_
      exact HK4 true h H locs hS hF h_x0 h_x0r0 h_x0r1 h_x0r2 ls (lv_sub hl [3, 4, 0] rfl)

abbrev R_X1_order : Room := { frames := 10, cells := 14, slots := 172, locals := 1433 }
noncomputable def f_X1_order (x0r0c : Nat → UInt64) (x0r1c : Nat → UInt64) (x0r2c : Nat → Int32) (x0f3 : Int32) (x0f4 : Int32) (x0f5 : Int32) (x0f6 : Int32) (x1 : Int32) (x2 : Int32) (x3 : Int32) : Option (Int32) :=
  Option.bind (f_X1_angleAt x0r0c x0r1c x0r2c x0f3 x0f4 x0f5 x0f6 x2) fun o1 =>
  Option.bind (f_X1_angleAt x0r0c x0r1c x0r2c x0f3 x0f4 x0f5 x0f6 x3) fun o2 =>
  Option.bind (f_X1_isIn x1 0 2) fun o3 =>
  Option.bind (f_X1_mustFit o3) fun o4 =>
  Option.bind (f_X1_answer x1 o1) fun o5 =>
  Option.bind (f_X1_answer x1 o2) fun o6 =>
  Option.bind (f_X1_orderOf o5 o6 1) fun o7 =>
  some o7
theorem hd_X1_order : Hd yX1_order 3 := by unfold Hd; decide +kernel
set_option maxHeartbeats 4000000 in
set_option maxRecDepth 100000 in
theorem m_X1_order {l : Launch} {D : DD} (x0 : Nat) (x0r0 : Nat) (x0r1 : Nat) (x0r2 : Nat)  (x0r0c : Nat → UInt64) (x0r1c : Nat → UInt64) (x0r2c : Nat → Int32) (x0f3 : Int32) (x0f4 : Int32) (x0f5 : Int32) (x0f6 : Int32) (x1 : Int32) (x2 : Int32) (x3 : Int32) (r : Int32) (h : f_X1_order x0r0c x0r1c x0r2c x0f3 x0f4 x0f5 x0f6 x1 x2 x3 = some r) : MT l D yX1_order cX1_order 8 (some .int) 10 1433 14 172 [.ref x0, .int x1, .int x2, .int x3] (fun H => ON D 0 x0 [.ref x0r0, .ref x0r1, .ref x0r2, .int x0f3, .int x0f4, .int x0f5, .int x0f6] H ∧ aD D x0r0 8 x0r0c H ∧ aD D x0r1 8 x0r1c H ∧ aZ D x0r2 8 x0r2c H) (pI (fun H b H' => b = r ∧ Off (fun _ => False) H H')) := by
  refine MT.start (by decide +kernel) (Nat.le_of_ble_eq_true rfl) ?_
  intro p e s m below meth c ls hC hS hp hl
  obtain ⟨h_x0, h_x0r0, h_x0r1, h_x0r2⟩ := hp
  obtain ⟨hx, hb, hr, hlk, hml, hown, hts, hnm⟩ := id hC
  have hl : lv_has ls 8 [(0, .ref x0), (1, .int x1), (2, .int x2), (3, .int x3)] := hl
  unfold f_X1_order at h
  have hS0 := hS
  obtain ⟨A, eA⟩ : ∃ A : Array Value, A = [.ref x0, .int x1, .int x2, .int x3].toArray := ⟨_, rfl⟩
  rw [← eA] at hC hts ⊢
  obtain ⟨Q, eQ⟩ : ∃ Q : State → Prop, Q = MQ below (TQ D (pI (fun H b H' => b = r ∧ Off (fun _ => False) H H'))) A s 14 172 (fun q => dB D ≤ q) := ⟨_, rfl⟩
  have hF : Off (fun _ => False) s.heap s.heap := Off.rf
  show W p l e R_X1_order s m A below meth c s.heap [] 0 0 _ _
  rw [← eQ]
  obtain ⟨H, eH⟩ : ∃ H : Heap, H = s.heap := ⟨_, rfl⟩
  obtain ⟨locs, eLc⟩ : ∃ L : List Loc, L = [] := ⟨_, rfl⟩
  have lt_h_x0 := h_x0.lt
  have lt_h_x0r0 := h_x0r0.lt
  have lt_h_x0r1 := h_x0r1.lt
  have lt_h_x0r2 := h_x0r2.lt
  rw [← eH, ← eLc]
  have hF : Off (fun _ => False) s.heap H := by rw [eH]; exact hF
  rw [← eH] at h_x0
  rw [← eH] at h_x0r0
  rw [← eH] at h_x0r1
  rw [← eH] at h_x0r2
  have hS : St D s H locs := by rw [eH, eLc]; exact hS
  refine lv_aload_n hx hb dX1_order_0 rfl (lv_at hl 0 rfl) ?_
  refine lv_iload_n hx hb dX1_order_1 rfl (lv_at hl 2 rfl) ?_
  obtain ⟨o1, eo1, h⟩ := bind_step h
  refine r_cp (r_runV (rest := []) (As := [.int x2]) hC 1 (m_X1_angleAt x0 x0r0 x0r1 x0r2  x0r0c x0r1c x0r2c x0f3 x0f4 x0f5 x0f6 x2 o1 eo1) q952 q954 qs11 q46 q955 (OA.recv hS h_x0.OA (C := RX1) rfl) hd_X1_angleAt rfl ⟨Nat.le_of_ble_eq_true rfl, Nat.le_of_ble_eq_true rfl⟩ hS ⟨h_x0, h_x0r0, h_x0r1, h_x0r2⟩ hl.1 rfl (Nat.le_of_ble_eq_true rfl) dX1_order_2 ⟨Nat.le_of_ble_eq_true rfl, Nat.le_of_ble_eq_true rfl⟩) ?_
  refine lv_dstore (lv' := [(4, .double o1), (0, .ref x0), (1, .int x1), (2, .int x2), (3, .int x3)]) hx hb dX1_order_5 hl (by decide) rfl (fun ls hl => ?_)
  refine lv_aload_n hx hb dX1_order_7 rfl (lv_at hl 1 rfl) ?_
  refine lv_iload_n hx hb dX1_order_8 rfl (lv_at hl 4 rfl) ?_
  obtain ⟨o2, eo2, h⟩ := bind_step h
  refine r_cp (r_runV (rest := []) (As := [.int x3]) hC 1 (m_X1_angleAt x0 x0r0 x0r1 x0r2  x0r0c x0r1c x0r2c x0f3 x0f4 x0f5 x0f6 x3 o2 eo2) q952 q954 qs11 q46 q955 (OA.recv hS h_x0.OA (C := RX1) rfl) hd_X1_angleAt rfl ⟨Nat.le_of_ble_eq_true rfl, Nat.le_of_ble_eq_true rfl⟩ hS ⟨h_x0, h_x0r0, h_x0r1, h_x0r2⟩ hl.1 rfl (Nat.le_of_ble_eq_true rfl) dX1_order_9 ⟨Nat.le_of_ble_eq_true rfl, Nat.le_of_ble_eq_true rfl⟩) ?_
  refine lv_dstore (lv' := [(6, .double o2), (4, .double o1), (0, .ref x0), (1, .int x1), (2, .int x2), (3, .int x3)]) hx hb dX1_order_12 hl (by decide) rfl (fun ls hl => ?_)
  refine lv_iload_n hx hb dX1_order_14 rfl (lv_at hl 3 rfl) ?_
  refine lv_iconst (v := 0) hx hb dX1_order_15 (by decide) ?_
  refine lv_iconst (v := 2) hx hb dX1_order_16 (by decide) ?_
  obtain ⟨o3, eo3, h⟩ := bind_step h
  refine r_cp (r_runS (rest := []) (As := [.int x1, .int 0, .int 2]) hC 3 (m_X1_isIn   x1 0 2 o3 eo3) q395 q396 q46 q397 hd_X1_isIn rfl ⟨Nat.le_of_ble_eq_true rfl, Nat.le_of_ble_eq_true rfl⟩ hS trivial hl.1 rfl (Nat.le_of_ble_eq_true rfl) dX1_order_17 ⟨Nat.le_of_ble_eq_true rfl, Nat.le_of_ble_eq_true rfl⟩) ?_
  obtain ⟨o4, eo4, h⟩ := bind_step h
  refine r_cpv (r_runS (rest := []) (As := [.int (bI o3)]) hC 1 (m_X1_mustFit   o3 o4 eo4) q1230 q1231 q46 q1232 hd_X1_mustFit rfl ⟨Nat.le_of_ble_eq_true rfl, Nat.le_of_ble_eq_true rfl⟩ hS trivial hl.1 rfl (Nat.le_of_ble_eq_true rfl) dX1_order_20 ⟨Nat.le_of_ble_eq_true rfl, Nat.le_of_ble_eq_true rfl⟩) ?_
  refine lv_iload_n hx hb dX1_order_23 rfl (lv_at hl 3 rfl) ?_
  refine lv_dload hx hb dX1_order_24 (lv_at hl 1 rfl) ?_
  obtain ⟨o5, eo5, h⟩ := bind_step h
  refine r_cd (r_runS (rest := []) (As := [.int x1, .double o1]) hC 2 (m_X1_answer   x1 o1 o5 eo5) q1336 q1337 q46 q1338 hd_X1_answer rfl ⟨Nat.le_of_ble_eq_true rfl, Nat.le_of_ble_eq_true rfl⟩ hS trivial hl.1 rfl (Nat.le_of_ble_eq_true rfl) dX1_order_26 ⟨Nat.le_of_ble_eq_true rfl, Nat.le_of_ble_eq_true rfl⟩) hS (fun b H locs hp hS hz => ?_)
  obtain ⟨eb_, hO⟩ := hp
  rw [eb_]
  have h_x0 := h_x0.ext hO
  have h_x0r0 := h_x0r0.ext hO
  have h_x0r1 := h_x0r1.ext hO
  have h_x0r2 := h_x0r2.ext hO
  have hF := hF.trans (hO.mono (fun _ _ z => z.elim))
  refine lv_iload_n hx hb dX1_order_29 rfl (lv_at hl 3 rfl) ?_
  refine lv_dload hx hb dX1_order_30 (lv_at hl 0 rfl) ?_
  obtain ⟨o6, eo6, h⟩ := bind_step h
  refine r_cd (r_runS (rest := [.double o5]) (As := [.int x1, .double o2]) hC 2 (m_X1_answer   x1 o2 o6 eo6) q1336 q1337 q46 q1338 hd_X1_answer rfl ⟨Nat.le_of_ble_eq_true rfl, Nat.le_of_ble_eq_true rfl⟩ hS trivial hl.1 rfl (Nat.le_of_ble_eq_true rfl) dX1_order_32 ⟨Nat.le_of_ble_eq_true rfl, Nat.le_of_ble_eq_true rfl⟩) hS (fun b H locs hp hS hz => ?_)
  obtain ⟨eb_, hO⟩ := hp
  rw [eb_]
  have h_x0 := h_x0.ext hO
  have h_x0r0 := h_x0r0.ext hO
  have h_x0r1 := h_x0r1.ext hO
  have h_x0r2 := h_x0r2.ext hO
  have hF := hF.trans (hO.mono (fun _ _ z => z.elim))
  refine lv_iconst (v := 1) hx hb dX1_order_35 (by decide) ?_
  obtain ⟨o7, eo7, h⟩ := bind_step h
  refine r_ci (r_runS (rest := []) (As := [.double o5, .double o6, .int 1]) hC 3 (m_X1_orderOf   o5 o6 1 o7 eo7) q1291 q1292 q46 q1293 hd_X1_orderOf rfl ⟨Nat.le_of_ble_eq_true rfl, Nat.le_of_ble_eq_true rfl⟩ hS trivial hl.1 rfl (Nat.le_of_ble_eq_true rfl) dX1_order_36 ⟨Nat.le_of_ble_eq_true rfl, Nat.le_of_ble_eq_true rfl⟩) hS (fun b H locs hp hS hz => ?_)
  obtain ⟨eb_, hO⟩ := hp
  rw [eb_]
  have h_x0 := h_x0.ext hO
  have h_x0r0 := h_x0r0.ext hO
  have h_x0r1 := h_x0r1.ext hO
  have h_x0r2 := h_x0r2.ext hO
  have hF := hF.trans (hO.mono (fun _ _ z => z.elim))
  obtain rfl := Option.some.inj h
  rw [eQ]
  exact r_iret hx hb hr hlk hS (Nat.le_of_ble_eq_true rfl) (Nat.le_of_ble_eq_true rfl) dX1_order_39 ⟨_, rfl, rfl, hF⟩

abbrev R_X1_isWithin : Room := { frames := 10, cells := 6, slots := 85, locals := 1433 }
noncomputable def f_X1_isWithin (x0r0c : Nat → UInt64) (x0r1c : Nat → UInt64) (x0r2c : Nat → Int32) (x0f3 : Int32) (x0f4 : Int32) (x0f5 : Int32) (x0f6 : Int32) (x1 : Int32) (x2 : Int32) : Option (Bool) :=
  Option.bind (f_X1_angleAt x0r0c x0r1c x0r2c x0f3 x0f4 x0f5 x0f6 x1) fun o1 =>
  Option.bind (f_X1_isIn x2 0 1) fun o2 =>
  Option.bind (f_X1_mustFit o2) fun o3 =>
  Option.bind (f_X1_answer x2 o1) fun o4 =>
  (if x2 = 1 then
    lti (dcmpF o1 0 .l) fun v7 =>
    (if v7 = 0 then
      Option.bind (f_X1_isInside o4 true) fun o10 =>
      some o10
    else
      Option.bind (f_X1_isInside o4 false) fun o9 =>
      some o9
    )
  else
    Option.bind (f_X1_isInside o4 false) fun o6 =>
    some o6
  )
theorem hd_X1_isWithin : Hd yX1_isWithin 2 := by unfold Hd; decide +kernel
set_option maxHeartbeats 4000000 in
set_option maxRecDepth 100000 in
theorem m_X1_isWithin {l : Launch} {D : DD} (x0 : Nat) (x0r0 : Nat) (x0r1 : Nat) (x0r2 : Nat)  (x0r0c : Nat → UInt64) (x0r1c : Nat → UInt64) (x0r2c : Nat → Int32) (x0f3 : Int32) (x0f4 : Int32) (x0f5 : Int32) (x0f6 : Int32) (x1 : Int32) (x2 : Int32) (r : Bool) (h : f_X1_isWithin x0r0c x0r1c x0r2c x0f3 x0f4 x0f5 x0f6 x1 x2 = some r) : MT l D yX1_isWithin cX1_isWithin 5 (some .boolean) 10 1433 6 85 [.ref x0, .int x1, .int x2] (fun H => ON D 0 x0 [.ref x0r0, .ref x0r1, .ref x0r2, .int x0f3, .int x0f4, .int x0f5, .int x0f6] H ∧ aD D x0r0 8 x0r0c H ∧ aD D x0r1 8 x0r1c H ∧ aZ D x0r2 8 x0r2c H) (pZ (fun H b H' => b = r ∧ Off (fun _ => False) H H')) := by
  refine MT.start (by decide +kernel) (Nat.le_of_ble_eq_true rfl) ?_
  intro p e s m below meth c ls hC hS hp hl
  obtain ⟨h_x0, h_x0r0, h_x0r1, h_x0r2⟩ := hp
  obtain ⟨hx, hb, hr, hlk, hml, hown, hts, hnm⟩ := id hC
  have hl : lv_has ls 5 [(0, .ref x0), (1, .int x1), (2, .int x2)] := hl
  unfold f_X1_isWithin at h
  have hS0 := hS
  obtain ⟨A, eA⟩ : ∃ A : Array Value, A = [.ref x0, .int x1, .int x2].toArray := ⟨_, rfl⟩
  rw [← eA] at hC hts ⊢
  obtain ⟨Q, eQ⟩ : ∃ Q : State → Prop, Q = MQ below (TQ D (pZ (fun H b H' => b = r ∧ Off (fun _ => False) H H'))) A s 6 85 (fun q => dB D ≤ q) := ⟨_, rfl⟩
  have hF : Off (fun _ => False) s.heap s.heap := Off.rf
  show W p l e R_X1_isWithin s m A below meth c s.heap [] 0 0 _ _
  rw [← eQ]
  obtain ⟨H, eH⟩ : ∃ H : Heap, H = s.heap := ⟨_, rfl⟩
  obtain ⟨locs, eLc⟩ : ∃ L : List Loc, L = [] := ⟨_, rfl⟩
  have lt_h_x0 := h_x0.lt
  have lt_h_x0r0 := h_x0r0.lt
  have lt_h_x0r1 := h_x0r1.lt
  have lt_h_x0r2 := h_x0r2.lt
  rw [← eH, ← eLc]
  have hF : Off (fun _ => False) s.heap H := by rw [eH]; exact hF
  rw [← eH] at h_x0
  rw [← eH] at h_x0r0
  rw [← eH] at h_x0r1
  rw [← eH] at h_x0r2
  have hS : St D s H locs := by rw [eH, eLc]; exact hS
  refine lv_aload_n hx hb dX1_isWithin_0 rfl (lv_at hl 0 rfl) ?_
  refine lv_iload_n hx hb dX1_isWithin_1 rfl (lv_at hl 1 rfl) ?_
  obtain ⟨o1, eo1, h⟩ := bind_step h
  refine r_cp (r_runV (rest := []) (As := [.int x1]) hC 1 (m_X1_angleAt x0 x0r0 x0r1 x0r2  x0r0c x0r1c x0r2c x0f3 x0f4 x0f5 x0f6 x1 o1 eo1) q952 q954 qs11 q46 q955 (OA.recv hS h_x0.OA (C := RX1) rfl) hd_X1_angleAt rfl ⟨Nat.le_of_ble_eq_true rfl, Nat.le_of_ble_eq_true rfl⟩ hS ⟨h_x0, h_x0r0, h_x0r1, h_x0r2⟩ hl.1 rfl (Nat.le_of_ble_eq_true rfl) dX1_isWithin_2 ⟨Nat.le_of_ble_eq_true rfl, Nat.le_of_ble_eq_true rfl⟩) ?_
  refine lv_dstore_n (lv' := [(3, .double o1), (0, .ref x0), (1, .int x1), (2, .int x2)]) hx hb dX1_isWithin_5 rfl hl (by decide) rfl (fun ls hl => ?_)
  refine lv_iload_n hx hb dX1_isWithin_6 rfl (lv_at hl 3 rfl) ?_
  refine lv_iconst (v := 0) hx hb dX1_isWithin_7 (by decide) ?_
  refine lv_iconst (v := 1) hx hb dX1_isWithin_8 (by decide) ?_
  obtain ⟨o2, eo2, h⟩ := bind_step h
  refine r_cp (r_runS (rest := []) (As := [.int x2, .int 0, .int 1]) hC 3 (m_X1_isIn   x2 0 1 o2 eo2) q395 q396 q46 q397 hd_X1_isIn rfl ⟨Nat.le_of_ble_eq_true rfl, Nat.le_of_ble_eq_true rfl⟩ hS trivial hl.1 rfl (Nat.le_of_ble_eq_true rfl) dX1_isWithin_9 ⟨Nat.le_of_ble_eq_true rfl, Nat.le_of_ble_eq_true rfl⟩) ?_
  obtain ⟨o3, eo3, h⟩ := bind_step h
  refine r_cpv (r_runS (rest := []) (As := [.int (bI o2)]) hC 1 (m_X1_mustFit   o2 o3 eo3) q1230 q1231 q46 q1232 hd_X1_mustFit rfl ⟨Nat.le_of_ble_eq_true rfl, Nat.le_of_ble_eq_true rfl⟩ hS trivial hl.1 rfl (Nat.le_of_ble_eq_true rfl) dX1_isWithin_12 ⟨Nat.le_of_ble_eq_true rfl, Nat.le_of_ble_eq_true rfl⟩) ?_
  refine lv_iload_n hx hb dX1_isWithin_15 rfl (lv_at hl 3 rfl) ?_
  refine lv_dload_n hx hb dX1_isWithin_16 rfl (lv_at hl 0 rfl) ?_
  obtain ⟨o4, eo4, h⟩ := bind_step h
  refine r_cd (r_runS (rest := []) (As := [.int x2, .double o1]) hC 2 (m_X1_answer   x2 o1 o4 eo4) q1336 q1337 q46 q1338 hd_X1_answer rfl ⟨Nat.le_of_ble_eq_true rfl, Nat.le_of_ble_eq_true rfl⟩ hS trivial hl.1 rfl (Nat.le_of_ble_eq_true rfl) dX1_isWithin_17 ⟨Nat.le_of_ble_eq_true rfl, Nat.le_of_ble_eq_true rfl⟩) hS (fun b H locs hp hS hz => ?_)
  obtain ⟨eb_, hO⟩ := hp
  rw [eb_]
  have h_x0 := h_x0.ext hO
  have h_x0r0 := h_x0r0.ext hO
  have h_x0r1 := h_x0r1.ext hO
  have h_x0r2 := h_x0r2.ext hO
  have hF := hF.trans (hO.mono (fun _ _ z => z.elim))
  refine lv_iload_n hx hb dX1_isWithin_20 rfl (lv_at hl 3 rfl) ?_
  refine lv_iconst (v := 1) hx hb dX1_isWithin_21 (by decide) ?_
  refine lv_icmp_ne (tgt := 35) hx hb dX1_isWithin_22 (by decide) (fun c5 => ?_) (fun c5 => ?_)
  · have h := it_neg h c5
    refine lv_iconst (v := 0) hx hb dX1_isWithin_35 (by decide) ?_
    obtain ⟨o6, eo6, h⟩ := bind_step h
    refine r_cp (r_runS (rest := []) (As := [.double o4, .int 0]) hC 2 (m_X1_isInside   o4 false o6 eo6) q398 q399 q46 q400 hd_X1_isInside rfl ⟨Nat.le_of_ble_eq_true rfl, Nat.le_of_ble_eq_true rfl⟩ hS trivial hl.1 rfl (Nat.le_of_ble_eq_true rfl) dX1_isWithin_36 ⟨Nat.le_of_ble_eq_true rfl, Nat.le_of_ble_eq_true rfl⟩) ?_
    obtain rfl := Option.some.inj h
    rw [eQ]
    exact r_zret hx hb hr hlk hS (narB _) (Nat.le_of_ble_eq_true rfl) (Nat.le_of_ble_eq_true rfl) dX1_isWithin_39 ⟨_, rfl, rfl, hF⟩
  · have h := it_pos h c5
    refine lv_dload_n hx hb dX1_isWithin_25 rfl (lv_at hl 0 rfl) ?_
    refine lv_dconst0 hx hb dX1_isWithin_26 ?_
    obtain ⟨v7, ev7, h⟩ := lti_step h
    refine r_dcmp hx hb ev7 dX1_isWithin_27 ?_
    refine lv_if_ne (tgt := 35) hx hb dX1_isWithin_28 (by decide) (fun c8 => ?_) (fun c8 => ?_)
    · have h := it_neg h c8
      refine lv_iconst (v := 0) hx hb dX1_isWithin_35 (by decide) ?_
      obtain ⟨o9, eo9, h⟩ := bind_step h
      refine r_cp (r_runS (rest := []) (As := [.double o4, .int 0]) hC 2 (m_X1_isInside   o4 false o9 eo9) q398 q399 q46 q400 hd_X1_isInside rfl ⟨Nat.le_of_ble_eq_true rfl, Nat.le_of_ble_eq_true rfl⟩ hS trivial hl.1 rfl (Nat.le_of_ble_eq_true rfl) dX1_isWithin_36 ⟨Nat.le_of_ble_eq_true rfl, Nat.le_of_ble_eq_true rfl⟩) ?_
      obtain rfl := Option.some.inj h
      rw [eQ]
      exact r_zret hx hb hr hlk hS (narB _) (Nat.le_of_ble_eq_true rfl) (Nat.le_of_ble_eq_true rfl) dX1_isWithin_39 ⟨_, rfl, rfl, hF⟩
    · have h := it_pos h c8
      refine lv_iconst (v := 1) hx hb dX1_isWithin_31 (by decide) ?_
      refine lv_goto (tgt := 36) hx hb dX1_isWithin_32 (by decide) ?_
      obtain ⟨o10, eo10, h⟩ := bind_step h
      refine r_cp (r_runS (rest := []) (As := [.double o4, .int 1]) hC 2 (m_X1_isInside   o4 true o10 eo10) q398 q399 q46 q400 hd_X1_isInside rfl ⟨Nat.le_of_ble_eq_true rfl, Nat.le_of_ble_eq_true rfl⟩ hS trivial hl.1 rfl (Nat.le_of_ble_eq_true rfl) dX1_isWithin_36 ⟨Nat.le_of_ble_eq_true rfl, Nat.le_of_ble_eq_true rfl⟩) ?_
      obtain rfl := Option.some.inj h
      rw [eQ]
      exact r_zret hx hb hr hlk hS (narB _) (Nat.le_of_ble_eq_true rfl) (Nat.le_of_ble_eq_true rfl) dX1_isWithin_39 ⟨_, rfl, rfl, hF⟩

abbrev R_X1_angleSort : Room := { frames := 5, cells := 2, slots := 16, locals := 140 }
noncomputable def f_X1_angleSort (x0r0c : Nat → UInt64) (x0r1c : Nat → UInt64) (x0r2c : Nat → Int32) (x0f3 : Int32) (x0f4 : Int32) (x0f5 : Int32) (x0f6 : Int32) : Option (Int32 × Int32 × (Nat → UInt64) × (Nat → Int32)) :=
  lti (x0f3 + 1) fun v1 =>
  lt (fun (f4 : Nat → Int32) (v5 : Int32) =>
  (show Option (Sum ((Nat → Int32) × Int32) ((Nat → Int32))) from (
  (if 8 ≤ v5 then
    some (.inr f4)
  else
    gd 8 v5 fun i19 =>
    lti (x0r2c i19) fun v20 =>
    ask (narZb v20) <|
    lt (v20 == 1) fun v22 =>
    gd 8 v5 fun i23 =>
    lt (va_up f4 i23 (bI v22)) fun f24 =>
    lti (v5 + 1) fun v25 =>
    some (.inl (f24, v25))
  )
  ))
  ) fun F15 =>
  Option.bind (lp 9 (fun x => F15 x.1 x.2) ((fun _ => 0), 0)) fun w16 =>
  Option.bind (f_X1_sort x0r0c (fun _ => 0)) fun o26 =>
  lt (fun (f27 : Nat → Int32) (v28 : Int32) =>
  (show Option (Sum ((Nat → Int32) × Int32) ((Nat → Int32))) from (
  (if 8 ≤ v28 then
    some (.inr f27)
  else
    gd 8 v28 fun i45 =>
    ltd (o26.2.1 i45) fun v46 =>
    Option.bind (f_X1_find o26.2.2 v46 false) fun o47 =>
    gd 8 o47 fun i48 =>
    lti (w16 i48) fun v49 =>
    ask (narZb v49) <|
    lt (v49 == 1) fun v51 =>
    gd 8 v28 fun i52 =>
    lt (va_up f27 i52 (bI v51)) fun f53 =>
    lti (v28 + 1) fun v54 =>
    some (.inl (f53, v54))
  )
  ))
  ) fun F41 =>
  Option.bind (lp 9 (fun x => F41 x.1 x.2) (x0r2c, 0)) fun w42 =>
  some (o26.1, v1, o26.2.1, w42)
theorem hd_X1_angleSort : Hd yX1_angleSort 0 := by unfold Hd; decide +kernel
set_option maxHeartbeats 4000000 in
set_option maxRecDepth 100000 in
theorem m_X1_angleSort {l : Launch} {D : DD} (x0 : Nat) (x0r0 : Nat) (x0r1 : Nat) (x0r2 : Nat)  (x0r0c : Nat → UInt64) (x0r1c : Nat → UInt64) (x0r2c : Nat → Int32) (x0f3 : Int32) (x0f4 : Int32) (x0f5 : Int32) (x0f6 : Int32) (r : Int32 × Int32 × (Nat → UInt64) × (Nat → Int32)) (h : f_X1_angleSort x0r0c x0r1c x0r2c x0f3 x0f4 x0f5 x0f6 = some r) : MT l D yX1_angleSort cX1_angleSort 5 (some .int) 5 140 2 16 [.ref x0] (fun H => ON D 0 x0 [.ref x0r0, .ref x0r1, .ref x0r2, .int x0f3, .int x0f4, .int x0f5, .int x0f6] H ∧ dB D ≤ x0 ∧ aD D x0r0 8 x0r0c H ∧ dB D ≤ x0r0 ∧ aD D x0r1 8 x0r1c H ∧ aZ D x0r2 8 x0r2c H ∧ dB D ≤ x0r2 ∧ x0 ≠ x0r0 ∧ x0 ≠ x0r1 ∧ x0 ≠ x0r2 ∧ x0r0 ≠ x0r1 ∧ x0r0 ≠ x0r2 ∧ x0r1 ≠ x0r2) (pI (fun H b H' => b = r.1 ∧ ON D 0 x0 [.ref x0r0, .ref x0r1, .ref x0r2, .int r.2.1, .int x0f4, .int x0f5, .int x0f6] H' ∧ aD D x0r0 8 r.2.2.1 H' ∧ aZ D x0r2 8 r.2.2.2 H' ∧ Off (fun a => a = x0 ∨ a = x0r0 ∨ a = x0r2) H H')) := by
  refine MT.start (by decide +kernel) (Nat.le_of_ble_eq_true rfl) ?_
  intro p e s m below meth c ls hC hS hp hl
  obtain ⟨h_x0, hB_h_x0, h_x0r0, hB_h_x0r0, h_x0r1, h_x0r2, hB_h_x0r2, ne_x0_x0r0, ne_x0_x0r1, ne_x0_x0r2, ne_x0r0_x0r1, ne_x0r0_x0r2, ne_x0r1_x0r2⟩ := hp
  obtain ⟨hx, hb, hr, hlk, hml, hown, hts, hnm⟩ := id hC
  have hl : lv_has ls 5 [(0, .ref x0)] := hl
  unfold f_X1_angleSort at h
  have hS0 := hS
  obtain ⟨A, eA⟩ : ∃ A : Array Value, A = [.ref x0].toArray := ⟨_, rfl⟩
  rw [← eA] at hC hts ⊢
  obtain ⟨Q, eQ⟩ : ∃ Q : State → Prop, Q = MQ below (TQ D (pI (fun H b H' => b = r.1 ∧ ON D 0 x0 [.ref x0r0, .ref x0r1, .ref x0r2, .int r.2.1, .int x0f4, .int x0f5, .int x0f6] H' ∧ aD D x0r0 8 r.2.2.1 H' ∧ aZ D x0r2 8 r.2.2.2 H' ∧ Off (fun a => a = x0 ∨ a = x0r0 ∨ a = x0r2) H H'))) A s 2 16 (fun q => dB D ≤ q) := ⟨_, rfl⟩
  have hF : Off (fun a => a = x0 ∨ a = x0r0 ∨ a = x0r2) s.heap s.heap := Off.rf
  show W p l e R_X1_angleSort s m A below meth c s.heap [] 0 0 _ _
  rw [← eQ]
  obtain ⟨H, eH⟩ : ∃ H : Heap, H = s.heap := ⟨_, rfl⟩
  obtain ⟨locs, eLc⟩ : ∃ L : List Loc, L = [] := ⟨_, rfl⟩
  have lt_h_x0 := h_x0.lt
  have lt_h_x0r0 := h_x0r0.lt
  have lt_h_x0r1 := h_x0r1.lt
  have lt_h_x0r2 := h_x0r2.lt
  rw [← eH, ← eLc]
  have hF : Off (fun a => a = x0 ∨ a = x0r0 ∨ a = x0r2) s.heap H := by rw [eH]; exact hF
  rw [← eH] at h_x0
  rw [← eH] at h_x0r0
  rw [← eH] at h_x0r1
  rw [← eH] at h_x0r2
  have hS : St D s H locs := by rw [eH, eLc]; exact hS
  refine lv_aload_n hx hb dX1_angleSort_0 rfl (lv_at hl 0 rfl) ?_
  refine lv_dup hx hb dX1_angleSort_1 rfl ?_
  refine r_get hx hb hts hown hS h_x0.OA rfl in_X1 3 (by decide) q917 rfl (v := .int x0f3) rfl dX1_angleSort_2 ?_
  refine lv_iconst (v := 1) hx hb dX1_angleSort_5 (by decide) ?_
  obtain ⟨v1, ev1, h⟩ := lti_step h
  refine r_iadd hx hb ev1 dX1_angleSort_6 ?_
  refine r_put hx hb hts hown hS h_x0 hB_h_x0 rfl in_X1 tyX1 tyX1_ok nmX1 3 (Nat.le_of_ble_eq_true rfl) rfl q917 rfl rfl (v := .int v1) rfl (by rfl) dX1_angleSort_7 (fun H locs hS hO h_x0 => ?_)
  have h_x0 : ON D 0 x0 [.ref x0r0, .ref x0r1, .ref x0r2, .int v1, .int x0f4, .int x0f5, .int x0f6] H := h_x0
  have h_x0r0 := h_x0r0.off hO (Ne.symm ne_x0_x0r0)
  have h_x0r1 := h_x0r1.off hO (Ne.symm ne_x0_x0r1)
  have h_x0r2 := h_x0r2.off hO (Ne.symm ne_x0_x0r2)
  have hF := hF.fresh hO (fun a ha z => Or.inl z)
  refine lv_bipush (v := 8) hx hb dX1_angleSort_10 (by decide) ?_
  refine r_newa hx hb hts hS (ty := .double) rfl q451 8 rfl (by decide) (by decide) (Nat.le_of_ble_eq_true rfl) (Nat.le_of_ble_eq_true rfl) dX1_angleSort_12 (fun ad2 H eq_ad2 hS hE had2 z_ad2 hB_had2 => ?_)
  have had2 : aD D ad2 8 (fun _ => 0) H := had2
  have gad2 : s.heap.size ≤ ad2 := by have := hF.1; omega
  have ne_h_x0_had2 : x0 ≠ ad2 := by have := h_x0.lt; omega
  have h_x0 := h_x0.ext hE
  have ne_h_x0r0_had2 : x0r0 ≠ ad2 := by have := h_x0r0.lt; omega
  have h_x0r0 := h_x0r0.ext hE
  have ne_h_x0r1_had2 : x0r1 ≠ ad2 := by have := h_x0r1.lt; omega
  have h_x0r1 := h_x0r1.ext hE
  have ne_h_x0r2_had2 : x0r2 ≠ ad2 := by have := h_x0r2.lt; omega
  have h_x0r2 := h_x0r2.ext hE
  have hF := hF.trans (hE.mono (fun _ _ z => z.elim))
  refine lv_astore_n (lv' := [(1, .ref ad2), (0, .ref x0)]) hx hb dX1_angleSort_14 rfl hl (by decide) rfl (fun ls hl => ?_)
  refine lv_bipush (v := 8) hx hb dX1_angleSort_15 (by decide) ?_
  refine r_newa hx hb hts hS (ty := .boolean) rfl q452 8 rfl (by decide) (by decide) (Nat.le_of_ble_eq_true rfl) (Nat.le_of_ble_eq_true rfl) dX1_angleSort_17 (fun ad3 H eq_ad3 hS hE had3 z_ad3 hB_had3 => ?_)
  have had3 : aZ D ad3 8 (fun _ => 0) H := had3
  have gad3 : s.heap.size ≤ ad3 := by have := hF.1; omega
  have ne_h_x0_had3 : x0 ≠ ad3 := by have := h_x0.lt; omega
  have h_x0 := h_x0.ext hE
  have ne_h_x0r0_had3 : x0r0 ≠ ad3 := by have := h_x0r0.lt; omega
  have h_x0r0 := h_x0r0.ext hE
  have ne_h_x0r1_had3 : x0r1 ≠ ad3 := by have := h_x0r1.lt; omega
  have h_x0r1 := h_x0r1.ext hE
  have ne_h_x0r2_had3 : x0r2 ≠ ad3 := by have := h_x0r2.lt; omega
  have h_x0r2 := h_x0r2.ext hE
  have ne_had2_had3 : ad2 ≠ ad3 := by have := had2.lt; omega
  have had2 := had2.ext hE
  have hF := hF.trans (hE.mono (fun _ _ z => z.elim))
  refine lv_astore_n (lv' := [(2, .ref ad3), (1, .ref ad2), (0, .ref x0)]) hx hb dX1_angleSort_19 rfl hl (by decide) rfl (fun ls hl => ?_)
  refine lv_iconst (v := 0) hx hb dX1_angleSort_20 (by decide) ?_
  refine lv_istore_n (lv' := [(3, .int 0), (2, .ref ad3), (1, .ref ad2), (0, .ref x0)]) hx hb dX1_angleSort_21 rfl hl (by decide) rfl (fun ls hl => ?_)
  obtain ⟨F15, eF15, h⟩ := lt_step h
  obtain ⟨w16, ew16, h⟩ := bind_step h
  have HL : ∀ (n : Nat) (f4 : Nat → Int32) (v5 : Int32) (w16 : (Nat → Int32)) (hk0 : lp n (fun x => F15 x.1 x.2) (f4, v5) = some w16)  (H : Heap) (locs : List Loc) (hS : St D s H locs) (hF : Off (fun a => a = x0 ∨ a = x0r0 ∨ a = x0r2) s.heap H) (h_x0 : ON D 0 x0 [.ref x0r0, .ref x0r1, .ref x0r2, .int v1, .int x0f4, .int x0f5, .int x0f6] H) (h_x0r0 : aD D x0r0 8 x0r0c H) (h_x0r1 : aD D x0r1 8 x0r1c H) (h_x0r2 : aZ D x0r2 8 x0r2c H) (had2 : aD D ad2 8 (fun _ => 0) H) (had3 : aZ D ad3 8 f4 H) (ls : Array Slot) (hl : lv_has ls 5 [(0, .ref x0), (1, .ref ad2), (2, .ref ad3), (3, .int v5)]) (K43 : ∀ (H : Heap) (locs : List Loc) (hS : St D s H locs) (hF : Off (fun a => a = x0 ∨ a = x0r0 ∨ a = x0r2) s.heap H) (h_x0 : ON D 0 x0 [.ref x0r0, .ref x0r1, .ref x0r2, .int v1, .int x0f4, .int x0f5, .int x0f6] H) (h_x0r0 : aD D x0r0 8 x0r0c H) (h_x0r1 : aD D x0r1 8 x0r1c H) (h_x0r2 : aZ D x0r2 8 x0r2c H) (had2 : aD D ad2 8 (fun _ => 0) H) (had3 : aZ D ad3 8 w16 H) (ls : Array Slot) (hl : lv_has ls 5 [(0, .ref x0), (1, .ref ad2), (2, .ref ad3)]), W p l e R_X1_angleSort s m A below meth c H locs 2 16 Q (F0 m 43 ls [])), W p l e R_X1_angleSort s m A below meth c H locs 2 16 Q (F0 m 22 ls []) := by
    intro n
    induction n with
    | zero => intro f4 v5 w16 hk0  H locs hS hF h_x0 h_x0r0 h_x0r1 h_x0r2 had2 had3 ls hl K43; exact lp_zero hk0
    | succ n ih =>
      intro f4 v5 w16 hk0  H locs hS hF h_x0 h_x0r0 h_x0r1 h_x0r2 had2 had3 ls hl K43
      obtain ⟨z17, hz, hk⟩ := lp_step hk0
      have h := (congrFun (congrFun (eF15) f4) v5).symm.trans hz
      refine lv_iload_n hx hb dX1_angleSort_22 rfl (lv_at hl 3 rfl) ?_
      refine lv_bipush (v := 8) hx hb dX1_angleSort_23 (by decide) ?_
      refine lv_icmp_ge (tgt := 43) hx hb dX1_angleSort_25 (by decide) (fun c18 => ?_) (fun c18 => ?_)
      · have h := it_pos h c18
        obtain rfl := Option.some.inj h
        obtain rfl := id hk
        exact K43 H locs hS hF h_x0 h_x0r0 h_x0r1 h_x0r2 had2 had3 ls (lv_sub hl [0, 1, 2] rfl)
      · have h := it_neg h c18
        refine lv_aload_n hx hb dX1_angleSort_28 rfl (lv_at hl 2 rfl) ?_
        refine lv_iload_n hx hb dX1_angleSort_29 rfl (lv_at hl 3 rfl) ?_
        refine lv_aload_n hx hb dX1_angleSort_30 rfl (lv_at hl 0 rfl) ?_
        refine r_get hx hb hts hown hS h_x0.OA rfl in_X1 2 (by decide) q916 rfl (v := .ref x0r2) rfl dX1_angleSort_31 ?_
        refine lv_iload_n hx hb dX1_angleSort_34 rfl (lv_at hl 3 rfl) ?_
        obtain ⟨i19, xi19, h⟩ := gd_step (by decide) h
        refine r_zald hx hb hS h_x0r2 i19 xi19 dX1_angleSort_35 ?_
        obtain ⟨v20, ev20, h⟩ := lti_step h
        refine r_nmI ev20 ?_
        obtain ⟨b21, h⟩ := ask_step h
        obtain ⟨v22, ev22, h⟩ := lt_step h
        rw [narZe b21 ev22]
        obtain ⟨i23, xi23, h⟩ := gd_step (by decide) h
        obtain ⟨f24, ef24, h⟩ := lt_step h
        refine r_zast hx hb hS had3 hB_had3 i23 xi23 (narB _) dX1_angleSort_36 (fun H locs hS hO had3 => ?_)
        have had3 : aZ D ad3 8 f24 H := by rw [ef24]; exact had3
        have h_x0 := h_x0.off hO ne_h_x0_had3
        have h_x0r0 := h_x0r0.off hO ne_h_x0r0_had3
        have h_x0r1 := h_x0r1.off hO ne_h_x0r1_had3
        have h_x0r2 := h_x0r2.off hO ne_h_x0r2_had3
        have had2 := had2.off hO ne_had2_had3
        have hF := hF.fresh hO (fun a ha z => absurd (z ▸ ha) (Nat.not_lt.mpr gad3))
        obtain ⟨v25, ev25, h⟩ := lti_step h
        refine lv_iinc (v := v25) (lv' := [(3, .int v25), (0, .ref x0), (1, .ref ad2), (2, .ref ad3)]) hx hb dX1_angleSort_37 hl (k := 3) rfl (by rw [ev25]; rfl) (by decide) rfl (fun ls hl => ?_)
        refine lv_goto (tgt := 22) hx hb dX1_angleSort_40 (by decide) ?_
        obtain rfl := Option.some.inj h
        exact ih f24 v25 w16 hk  H locs hS hF h_x0 h_x0r0 h_x0r1 h_x0r2 had2 had3 ls (lv_sub hl [1, 2, 3, 0] rfl) K43
  clear eF15
  refine HL 9 (fun _ => 0) 0 w16 ew16  H locs hS hF h_x0 h_x0r0 h_x0r1 h_x0r2 had2 had3 ls (lv_sub hl [3, 2, 1, 0] rfl) (fun  H locs hS hF h_x0 h_x0r0 h_x0r1 h_x0r2 had2 had3 ls hl => ?_)
  refine lv_aload_n hx hb dX1_angleSort_43 rfl (lv_at hl 0 rfl) ?_
  refine r_get hx hb hts hown hS h_x0.OA rfl in_X1 0 (by decide) q914 rfl (v := .ref x0r0) rfl dX1_angleSort_44 ?_
  refine lv_aload_n hx hb dX1_angleSort_47 rfl (lv_at hl 1 rfl) ?_
  obtain ⟨o26, eo26, h⟩ := bind_step h
  refine r_ci (r_runS (rest := []) (As := [.ref x0r0, .ref ad2]) hC 2 (m_X1_sort x0r0 ad2  x0r0c (fun _ => 0) o26 eo26) q1670 q1671 q46 q1672 hd_X1_sort rfl ⟨Nat.le_of_ble_eq_true rfl, Nat.le_of_ble_eq_true rfl⟩ hS ⟨h_x0r0, hB_h_x0r0, had2, hB_had2, ne_h_x0r0_had2⟩ hl.1 rfl (Nat.le_of_ble_eq_true rfl) dX1_angleSort_48 ⟨Nat.le_of_ble_eq_true rfl, Nat.le_of_ble_eq_true rfl⟩) hS (fun b H locs hp hS hz => ?_)
  obtain ⟨rfl, h_x0r0, had2, hO⟩ := hp
  have h_x0 := h_x0.off hO (fun z => by rcases z with z | z <;> first | exact ne_x0_x0r0 z | exact ne_h_x0_had2 z)
  have h_x0r1 := h_x0r1.off hO (fun z => by rcases z with z | z <;> first | exact (Ne.symm ne_x0r0_x0r1) z | exact ne_h_x0r1_had2 z)
  have h_x0r2 := h_x0r2.off hO (fun z => by rcases z with z | z <;> first | exact (Ne.symm ne_x0r0_x0r2) z | exact ne_h_x0r2_had2 z)
  have had3 := had3.off hO (fun z => by rcases z with z | z <;> first | exact (Ne.symm ne_h_x0r0_had3) z | exact (Ne.symm ne_had2_had3) z)
  have hF := hF.fresh hO (fun a ha z => by
    rcases z with z | z
    · exact Or.inr (Or.inl z)
    · exact absurd (z ▸ ha) (Nat.not_lt.mpr gad2))
  refine lv_istore_n (lv' := [(3, .int o26.1), (0, .ref x0), (1, .ref ad2), (2, .ref ad3)]) hx hb dX1_angleSort_51 rfl hl (by decide) rfl (fun ls hl => ?_)
  refine lv_iconst (v := 0) hx hb dX1_angleSort_52 (by decide) ?_
  refine lv_istore (lv' := [(4, .int 0), (3, .int o26.1), (0, .ref x0), (1, .ref ad2), (2, .ref ad3)]) hx hb dX1_angleSort_53 hl (by decide) rfl (fun ls hl => ?_)
  obtain ⟨F41, eF41, h⟩ := lt_step h
  obtain ⟨w42, ew42, h⟩ := bind_step h
  have HL : ∀ (n : Nat) (f27 : Nat → Int32) (v28 : Int32) (w42 : (Nat → Int32)) (hk0 : lp n (fun x => F41 x.1 x.2) (f27, v28) = some w42)  (H : Heap) (locs : List Loc) (hS : St D s H locs) (hF : Off (fun a => a = x0 ∨ a = x0r0 ∨ a = x0r2) s.heap H) (h_x0 : ON D 0 x0 [.ref x0r0, .ref x0r1, .ref x0r2, .int v1, .int x0f4, .int x0f5, .int x0f6] H) (h_x0r0 : aD D x0r0 8 o26.2.1 H) (h_x0r1 : aD D x0r1 8 x0r1c H) (h_x0r2 : aZ D x0r2 8 f27 H) (had2 : aD D ad2 8 o26.2.2 H) (had3 : aZ D ad3 8 w16 H) (ls : Array Slot) (hl : lv_has ls 5 [(0, .ref x0), (1, .ref ad2), (2, .ref ad3), (3, .int o26.1), (4, .int v28)]) (K89 : ∀ (H : Heap) (locs : List Loc) (hS : St D s H locs) (hF : Off (fun a => a = x0 ∨ a = x0r0 ∨ a = x0r2) s.heap H) (h_x0 : ON D 0 x0 [.ref x0r0, .ref x0r1, .ref x0r2, .int v1, .int x0f4, .int x0f5, .int x0f6] H) (h_x0r0 : aD D x0r0 8 o26.2.1 H) (h_x0r1 : aD D x0r1 8 x0r1c H) (h_x0r2 : aZ D x0r2 8 w42 H) (ls : Array Slot) (hl : lv_has ls 5 [(3, .int o26.1)]), W p l e R_X1_angleSort s m A below meth c H locs 2 16 Q (F0 m 89 ls [])), W p l e R_X1_angleSort s m A below meth c H locs 2 16 Q (F0 m 55 ls []) := by
    intro n
    induction n with
    | zero => intro f27 v28 w42 hk0  H locs hS hF h_x0 h_x0r0 h_x0r1 h_x0r2 had2 had3 ls hl K89; exact lp_zero hk0
    | succ n ih =>
      intro f27 v28 w42 hk0  H locs hS hF h_x0 h_x0r0 h_x0r1 h_x0r2 had2 had3 ls hl K89
      obtain ⟨z43, hz, hk⟩ := lp_step hk0
      have h := (congrFun (congrFun (eF41) f27) v28).symm.trans hz
      refine lv_iload hx hb dX1_angleSort_55 (lv_at hl 4 rfl) ?_
      refine lv_bipush (v := 8) hx hb dX1_angleSort_57 (by decide) ?_
      refine lv_icmp_ge (tgt := 89) hx hb dX1_angleSort_59 (by decide) (fun c44 => ?_) (fun c44 => ?_)
      · have h := it_pos h c44
        obtain rfl := Option.some.inj h
        obtain rfl := id hk
        exact K89 H locs hS hF h_x0 h_x0r0 h_x0r1 h_x0r2 ls (lv_sub hl [3] rfl)
      · have h := it_neg h c44
        refine lv_aload_n hx hb dX1_angleSort_62 rfl (lv_at hl 0 rfl) ?_
        refine r_get hx hb hts hown hS h_x0.OA rfl in_X1 2 (by decide) q916 rfl (v := .ref x0r2) rfl dX1_angleSort_63 ?_
        refine lv_iload hx hb dX1_angleSort_66 (lv_at hl 4 rfl) ?_
        refine lv_aload_n hx hb dX1_angleSort_68 rfl (lv_at hl 2 rfl) ?_
        refine lv_aload_n hx hb dX1_angleSort_69 rfl (lv_at hl 1 rfl) ?_
        refine lv_aload_n hx hb dX1_angleSort_70 rfl (lv_at hl 0 rfl) ?_
        refine r_get hx hb hts hown hS h_x0.OA rfl in_X1 0 (by decide) q914 rfl (v := .ref x0r0) rfl dX1_angleSort_71 ?_
        refine lv_iload hx hb dX1_angleSort_74 (lv_at hl 4 rfl) ?_
        obtain ⟨i45, xi45, h⟩ := gd_step (by decide) h
        refine r_dald hx hb hS h_x0r0 i45 xi45 dX1_angleSort_76 ?_
        obtain ⟨v46, ev46, h⟩ := ltd_step h
        refine r_nmD ev46 ?_
        refine lv_iconst (v := 0) hx hb dX1_angleSort_77 (by decide) ?_
        obtain ⟨o47, eo47, h⟩ := bind_step h
        refine r_cp (r_runS (rest := [.ref ad3, .int v28, .ref x0r2]) (As := [.ref ad2, .double v46, .int 0]) hC 3 (m_X1_find ad2  o26.2.2 v46 false o47 eo47) q1270 q1271 q46 q1272 hd_X1_find rfl ⟨Nat.le_of_ble_eq_true rfl, Nat.le_of_ble_eq_true rfl⟩ hS had2 hl.1 rfl (Nat.le_of_ble_eq_true rfl) dX1_angleSort_78 ⟨Nat.le_of_ble_eq_true rfl, Nat.le_of_ble_eq_true rfl⟩) ?_
        obtain ⟨i48, xi48, h⟩ := gd_step (by decide) h
        refine r_zald hx hb hS had3 i48 xi48 dX1_angleSort_81 ?_
        obtain ⟨v49, ev49, h⟩ := lti_step h
        refine r_nmI ev49 ?_
        obtain ⟨b50, h⟩ := ask_step h
        obtain ⟨v51, ev51, h⟩ := lt_step h
        rw [narZe b50 ev51]
        obtain ⟨i52, xi52, h⟩ := gd_step (by decide) h
        obtain ⟨f53, ef53, h⟩ := lt_step h
        refine r_zast hx hb hS h_x0r2 hB_h_x0r2 i52 xi52 (narB _) dX1_angleSort_82 (fun H locs hS hO h_x0r2 => ?_)
        have h_x0r2 : aZ D x0r2 8 f53 H := by rw [ef53]; exact h_x0r2
        have h_x0 := h_x0.off hO ne_x0_x0r2
        have h_x0r0 := h_x0r0.off hO ne_x0r0_x0r2
        have h_x0r1 := h_x0r1.off hO ne_x0r1_x0r2
        have had2 := had2.off hO (Ne.symm ne_h_x0r2_had2)
        have had3 := had3.off hO (Ne.symm ne_h_x0r2_had3)
        have hF := hF.fresh hO (fun a ha z => Or.inr (Or.inr (z)))
        obtain ⟨v54, ev54, h⟩ := lti_step h
        refine lv_iinc (v := v54) (lv' := [(4, .int v54), (0, .ref x0), (1, .ref ad2), (2, .ref ad3), (3, .int o26.1)]) hx hb dX1_angleSort_83 hl (k := 4) rfl (by rw [ev54]; rfl) (by decide) rfl (fun ls hl => ?_)
        refine lv_goto (tgt := 55) hx hb dX1_angleSort_86 (by decide) ?_
        obtain rfl := Option.some.inj h
        exact ih f53 v54 w42 hk  H locs hS hF h_x0 h_x0r0 h_x0r1 h_x0r2 had2 had3 ls (lv_sub hl [1, 2, 3, 4, 0] rfl) K89
  clear eF41
  refine HL 9 x0r2c 0 w42 ew42  H locs hS hF h_x0 h_x0r0 h_x0r1 h_x0r2 had2 had3 ls (lv_sub hl [2, 3, 4, 1, 0] rfl) (fun  H locs hS hF h_x0 h_x0r0 h_x0r1 h_x0r2 ls hl => ?_)
  refine lv_iload_n hx hb dX1_angleSort_89 rfl (lv_at hl 0 rfl) ?_
  obtain rfl := Option.some.inj h
  rw [eQ]
  exact r_iret hx hb hr hlk hS (Nat.le_of_ble_eq_true rfl) (Nat.le_of_ble_eq_true rfl) dX1_angleSort_90 ⟨_, rfl, rfl, h_x0, h_x0r0, h_x0r2, hF⟩

abbrev R_X1_eighthsOf : Room := { frames := 4, cells := 0, slots := 0, locals := 86 }
noncomputable def f_X1_eighthsOf (x0 : UInt64) : Option (Int32) :=
  Option.bind (f_X1_exponentOf x0) fun o1 =>
  lti (1072 - o1) fun v2 =>
  Option.bind (f_X1_sizeOf x0) fun o3 =>
  lti (dcmpF o3 0 .l) fun v4 =>
  (if v4 = 0 then
    some 0
  else
    (if v2 < 0 then
      some (-2147483648)
    else
      (if v2 ≤ 52 then
        Option.bind (f_X1_fractionOf x0) fun o8 =>
        ltl ((4503599627370496 ||| o8 : Int64)) fun v9 =>
        ltl ((v9 : Int64) >>> ((v2 : Int32).toInt64 &&& 63)) fun v10 =>
        ltl ((v10 : Int64) <<< ((v2 : Int32).toInt64 &&& 63)) fun v11 =>
        lti (lg_cmp v11 v9) fun v12 =>
        (if v12 = 0 then
          lti (lg_cmp v10 32768) fun v14 =>
          (if v14 ≤ 0 then
            Option.bind (f_X1_signOf x0) fun o16 =>
            (if o16 = 1 then
              ltl (-v10) fun v19 =>
              lti (v19.toInt32) fun v20 =>
              some v20
            else
              lti (v10.toInt32) fun v18 =>
              some v18
            )
          else
            some (-2147483648)
          )
        else
          some (-2147483648)
        )
      else
        some (-2147483648)
      )
    )
  )
theorem hd_X1_eighthsOf : Hd yX1_eighthsOf 1 := by unfold Hd; decide +kernel
set_option maxHeartbeats 4000000 in
set_option maxRecDepth 100000 in
theorem m_X1_eighthsOf {l : Launch} {D : DD}   (x0 : UInt64) (r : Int32) (h : f_X1_eighthsOf x0 = some r) : MP l D yX1_eighthsOf cX1_eighthsOf 7 (some .int) 4 86 [.double x0] NoPre (some (.int r)) := by
  refine MP.start (by decide +kernel) (Nat.le_of_ble_eq_true rfl) ?_
  intro p e s m below meth c ls hC hS hp hl
  obtain ⟨hx, hb, hr, hlk, hml, hown, hts, hnm⟩ := id hC
  have hl : lv_has ls 7 [(0, .double x0)] := hl
  unfold f_X1_eighthsOf at h
  have hS0 := hS
  obtain ⟨A, eA⟩ : ∃ A : Array Value, A = [.double x0].toArray := ⟨_, rfl⟩
  rw [← eA] at hC hts ⊢
  obtain ⟨Q, eQ⟩ : ∃ Q : State → Prop, Q = MQ below (PQ (some (.int r))) A s 0 0 (fun _ => False) := ⟨_, rfl⟩
  show W p l e R_X1_eighthsOf s m A below meth c s.heap [] 0 0 _ _
  rw [← eQ]
  refine lv_sipush (v := 1072) hx hb dX1_eighthsOf_0 (by decide) ?_
  refine lv_dload_n hx hb dX1_eighthsOf_3 rfl (lv_at hl 0 rfl) ?_
  obtain ⟨o1, eo1, h⟩ := bind_step h
  refine r_cp (r_runS (rest := [.int 1072]) (As := [.double x0]) hC 1 (m_X1_exponentOf   x0 o1 eo1) q360 q361 q46 q362 hd_X1_exponentOf rfl ⟨Nat.le_of_ble_eq_true rfl, Nat.le_of_ble_eq_true rfl⟩ hS trivial hl.1 rfl (Nat.le_of_ble_eq_true rfl) dX1_eighthsOf_4 ⟨Nat.le_of_ble_eq_true rfl, Nat.le_of_ble_eq_true rfl⟩) ?_
  obtain ⟨v2, ev2, h⟩ := lti_step h
  refine r_isub hx hb ev2 dX1_eighthsOf_7 ?_
  refine lv_istore_n (lv' := [(2, .int v2), (0, .double x0)]) hx hb dX1_eighthsOf_8 rfl hl (by decide) rfl (fun ls hl => ?_)
  refine lv_dload_n hx hb dX1_eighthsOf_9 rfl (lv_at hl 1 rfl) ?_
  obtain ⟨o3, eo3, h⟩ := bind_step h
  refine r_cp (r_runS (rest := []) (As := [.double x0]) hC 1 (m_X1_sizeOf   x0 o3 eo3) q375 q376 q46 q377 hd_X1_sizeOf rfl ⟨Nat.le_of_ble_eq_true rfl, Nat.le_of_ble_eq_true rfl⟩ hS trivial hl.1 rfl (Nat.le_of_ble_eq_true rfl) dX1_eighthsOf_10 ⟨Nat.le_of_ble_eq_true rfl, Nat.le_of_ble_eq_true rfl⟩) ?_
  refine lv_dconst0 hx hb dX1_eighthsOf_13 ?_
  obtain ⟨v4, ev4, h⟩ := lti_step h
  refine r_dcmp hx hb ev4 dX1_eighthsOf_14 ?_
  refine lv_if_ne (tgt := 20) hx hb dX1_eighthsOf_15 (by decide) (fun c5 => ?_) (fun c5 => ?_)
  · have h := it_neg h c5
    refine lv_iload_n hx hb dX1_eighthsOf_20 rfl (lv_at hl 0 rfl) ?_
    refine lv_if_lt (tgt := 30) hx hb dX1_eighthsOf_21 (by decide) (fun c6 => ?_) (fun c6 => ?_)
    · have h := it_pos h c6
      refine lv_ldc hx hb (v := (-2147483648)) hown (hts _ q379) dX1_eighthsOf_30 ?_
      obtain rfl := Option.some.inj h
      rw [eQ]
      exact p_iret hx hb hr hlk dX1_eighthsOf_32 rfl
    · have h := it_neg h c6
      refine lv_iload_n hx hb dX1_eighthsOf_24 rfl (lv_at hl 0 rfl) ?_
      refine lv_bipush (v := 52) hx hb dX1_eighthsOf_25 (by decide) ?_
      refine lv_icmp_le (tgt := 33) hx hb dX1_eighthsOf_27 (by decide) (fun c7 => ?_) (fun c7 => ?_)
      · have h := it_pos h c7
        refine lv_ldc2 hx hb (v := 4503599627370496) hown (hts _ q380) dX1_eighthsOf_33 ?_
        refine lv_dload_n hx hb dX1_eighthsOf_36 rfl (lv_at hl 1 rfl) ?_
        obtain ⟨o8, eo8, h⟩ := bind_step h
        refine r_cp (r_runS (rest := [.long 4503599627370496]) (As := [.double x0]) hC 1 (m_X1_fractionOf   x0 o8 eo8) q381 q382 q46 q383 hd_X1_fractionOf rfl ⟨Nat.le_of_ble_eq_true rfl, Nat.le_of_ble_eq_true rfl⟩ hS trivial hl.1 rfl (Nat.le_of_ble_eq_true rfl) dX1_eighthsOf_37 ⟨Nat.le_of_ble_eq_true rfl, Nat.le_of_ble_eq_true rfl⟩) ?_
        obtain ⟨v9, ev9, h⟩ := ltl_step h
        refine r_lor hx hb ev9 dX1_eighthsOf_40 ?_
        refine lv_lstore_n (lv' := [(3, .long v9), (2, .int v2), (0, .double x0)]) hx hb dX1_eighthsOf_41 rfl hl (by decide) rfl (fun ls hl => ?_)
        refine lv_lload_n hx hb dX1_eighthsOf_42 rfl (lv_at hl 0 rfl) ?_
        refine lv_iload_n hx hb dX1_eighthsOf_43 rfl (lv_at hl 1 rfl) ?_
        obtain ⟨v10, ev10, h⟩ := ltl_step h
        refine r_lshr hx hb ev10 dX1_eighthsOf_44 ?_
        refine lv_lstore (lv' := [(5, .long v10), (3, .long v9), (2, .int v2), (0, .double x0)]) hx hb dX1_eighthsOf_45 hl (by decide) rfl (fun ls hl => ?_)
        refine lv_lload hx hb dX1_eighthsOf_47 (lv_at hl 0 rfl) ?_
        refine lv_iload_n hx hb dX1_eighthsOf_49 rfl (lv_at hl 2 rfl) ?_
        obtain ⟨v11, ev11, h⟩ := ltl_step h
        refine r_lshl hx hb ev11 dX1_eighthsOf_50 ?_
        refine lv_lload_n hx hb dX1_eighthsOf_51 rfl (lv_at hl 1 rfl) ?_
        obtain ⟨v12, ev12, h⟩ := lti_step h
        refine r_lcmp hx hb ev12 dX1_eighthsOf_52 ?_
        refine lv_if_ne (tgt := 65) hx hb dX1_eighthsOf_53 (by decide) (fun c13 => ?_) (fun c13 => ?_)
        · have h := it_neg h c13
          refine lv_ldc hx hb (v := (-2147483648)) hown (hts _ q379) dX1_eighthsOf_65 ?_
          obtain rfl := Option.some.inj h
          rw [eQ]
          exact p_iret hx hb hr hlk dX1_eighthsOf_67 rfl
        · have h := it_pos h c13
          refine lv_lload hx hb dX1_eighthsOf_56 (lv_at hl 0 rfl) ?_
          refine lv_ldc2 hx hb (v := 32768) hown (hts _ q385) dX1_eighthsOf_58 ?_
          obtain ⟨v14, ev14, h⟩ := lti_step h
          refine r_lcmp hx hb ev14 dX1_eighthsOf_61 ?_
          refine lv_if_le (tgt := 68) hx hb dX1_eighthsOf_62 (by decide) (fun c15 => ?_) (fun c15 => ?_)
          · have h := it_pos h c15
            refine lv_dload_n hx hb dX1_eighthsOf_68 rfl (lv_at hl 3 rfl) ?_
            obtain ⟨o16, eo16, h⟩ := bind_step h
            refine r_cp (r_runS (rest := []) (As := [.double x0]) hC 1 (m_X1_signOf   x0 o16 eo16) q386 q387 q46 q388 hd_X1_signOf rfl ⟨Nat.le_of_ble_eq_true rfl, Nat.le_of_ble_eq_true rfl⟩ hS trivial hl.1 rfl (Nat.le_of_ble_eq_true rfl) dX1_eighthsOf_69 ⟨Nat.le_of_ble_eq_true rfl, Nat.le_of_ble_eq_true rfl⟩) ?_
            refine lv_iconst (v := 1) hx hb dX1_eighthsOf_72 (by decide) ?_
            refine lv_icmp_ne (tgt := 82) hx hb dX1_eighthsOf_73 (by decide) (fun c17 => ?_) (fun c17 => ?_)
            · have h := it_neg h c17
              refine lv_lload hx hb dX1_eighthsOf_82 (lv_at hl 0 rfl) ?_
              obtain ⟨v18, ev18, h⟩ := lti_step h
              refine r_l2i hx hb ev18 dX1_eighthsOf_84 ?_
              obtain rfl := Option.some.inj h
              rw [eQ]
              exact p_iret hx hb hr hlk dX1_eighthsOf_85 rfl
            · have h := it_pos h c17
              refine lv_lload hx hb dX1_eighthsOf_76 (lv_at hl 0 rfl) ?_
              obtain ⟨v19, ev19, h⟩ := ltl_step h
              refine r_lneg hx hb ev19 dX1_eighthsOf_78 ?_
              refine lv_goto (tgt := 84) hx hb dX1_eighthsOf_79 (by decide) ?_
              obtain ⟨v20, ev20, h⟩ := lti_step h
              refine r_l2i hx hb ev20 dX1_eighthsOf_84 ?_
              obtain rfl := Option.some.inj h
              rw [eQ]
              exact p_iret hx hb hr hlk dX1_eighthsOf_85 rfl
          · have h := it_neg h c15
            refine lv_ldc hx hb (v := (-2147483648)) hown (hts _ q379) dX1_eighthsOf_65 ?_
            obtain rfl := Option.some.inj h
            rw [eQ]
            exact p_iret hx hb hr hlk dX1_eighthsOf_67 rfl
      · have h := it_neg h c7
        refine lv_ldc hx hb (v := (-2147483648)) hown (hts _ q379) dX1_eighthsOf_30 ?_
        obtain rfl := Option.some.inj h
        rw [eQ]
        exact p_iret hx hb hr hlk dX1_eighthsOf_32 rfl
  · have h := it_pos h c5
    refine lv_iconst (v := 0) hx hb dX1_eighthsOf_18 (by decide) ?_
    obtain rfl := Option.some.inj h
    rw [eQ]
    exact p_iret hx hb hr hlk dX1_eighthsOf_19 rfl

abbrev R_X1_square : Room := { frames := 6, cells := 7, slots := 56, locals := 155 }
noncomputable def f_X1_square (x0 : UInt64) : Option (Int32 × Nat × (Nat → Int32)) :=
  Option.bind (f_X1_exact x0 70) fun o1 =>
  Option.bind (f_J16_multiply o1.1 o1.2.1 o1.2.2 o1.1 o1.2.1 o1.2.2) fun o8 =>
  some (o8.1, o8.2.1, o8.2.2)
theorem hd_X1_square : Hd yX1_square 1 := by unfold Hd; decide +kernel
set_option maxHeartbeats 4000000 in
set_option maxRecDepth 100000 in
theorem m_X1_square {l : Launch} {D : DD}   (x0 : UInt64) (r : Int32 × Nat × (Nat → Int32)) (h : f_X1_square x0 = some r) : MT l D yX1_square cX1_square 3 (some (.object "java/math/BigInteger")) 6 155 7 56 [.double x0] NoPre (pR (fun H b H' => ∃ b_1 : Nat, ∃ b_2 b_3 b_4 b_5 : Int32, OA D 2 b [.int r.1, .ref b_1, .int b_2, .int b_3, .int b_4, .int b_5] H' ∧ aI D b_1 r.2.1 r.2.2 H' ∧ r.2.1 ≤ 1000000 ∧ Off (fun _ => False) H H')) := by
  refine MT.start (by decide +kernel) (Nat.le_of_ble_eq_true rfl) ?_
  intro p e s m below meth c ls hC hS hp hl
  obtain ⟨hx, hb, hr, hlk, hml, hown, hts, hnm⟩ := id hC
  have hl : lv_has ls 3 [(0, .double x0)] := hl
  unfold f_X1_square at h
  have hS0 := hS
  obtain ⟨A, eA⟩ : ∃ A : Array Value, A = [.double x0].toArray := ⟨_, rfl⟩
  rw [← eA] at hC hts ⊢
  obtain ⟨Q, eQ⟩ : ∃ Q : State → Prop, Q = MQ below (TQ D (pR (fun H b H' => ∃ b_1 : Nat, ∃ b_2 b_3 b_4 b_5 : Int32, OA D 2 b [.int r.1, .ref b_1, .int b_2, .int b_3, .int b_4, .int b_5] H' ∧ aI D b_1 r.2.1 r.2.2 H' ∧ r.2.1 ≤ 1000000 ∧ Off (fun _ => False) H H'))) A s 7 56 (fun q => dB D ≤ q) := ⟨_, rfl⟩
  have hF : Off (fun _ => False) s.heap s.heap := Off.rf
  show W p l e R_X1_square s m A below meth c s.heap [] 0 0 _ _
  rw [← eQ]
  obtain ⟨H, eH⟩ : ∃ H : Heap, H = s.heap := ⟨_, rfl⟩
  obtain ⟨locs, eLc⟩ : ∃ L : List Loc, L = [] := ⟨_, rfl⟩
  rw [← eH, ← eLc]
  have hF : Off (fun _ => False) s.heap H := by rw [eH]; exact hF
  have hS : St D s H locs := by rw [eH, eLc]; exact hS
  refine lv_dload_n hx hb dX1_square_0 rfl (lv_at hl 0 rfl) ?_
  refine lv_bipush (v := 70) hx hb dX1_square_1 (by decide) ?_
  obtain ⟨o1, eo1, h⟩ := bind_step h
  refine r_cr (r_runS (rest := []) (As := [.double x0, .int 70]) hC 2 (m_X1_exact   x0 70 o1 eo1) q412 q413 q46 q414 hd_X1_exact rfl ⟨Nat.le_of_ble_eq_true rfl, Nat.le_of_ble_eq_true rfl⟩ hS trivial hl.1 rfl (Nat.le_of_ble_eq_true rfl) dX1_square_3 ⟨Nat.le_of_ble_eq_true rfl, Nat.le_of_ble_eq_true rfl⟩) hS (fun ad2 H locs hp hS hz => ?_)
  obtain ⟨ad3, e4, e5, e6, e7, had2, had3, lo1_2_1, hO⟩ := hp
  have hF := hF.trans (hO.mono (fun _ _ z => z.elim))
  refine lv_astore_n (lv' := [(2, .ref ad2), (0, .double x0)]) hx hb dX1_square_6 rfl hl (by decide) rfl (fun ls hl => ?_)
  refine lv_aload_n hx hb dX1_square_7 rfl (lv_at hl 0 rfl) ?_
  refine lv_aload_n hx hb dX1_square_8 rfl (lv_at hl 0 rfl) ?_
  obtain ⟨o8, eo8, h⟩ := bind_step h
  refine r_cr (r_runV (rest := []) (As := [.ref ad2]) hC 1 (m_J16_multiply ad2 ad3 ad2 ad3 e4 e5 e6 e7 e4 e5 e6 e7 o1.1 o1.2.1 o1.2.2 o1.1 o1.2.1 o1.2.2 o8 eo8) q507 q508 q509 q57 q510 (OA.recv hS had2 (C := RJ16) rfl) hd_J16_multiply rfl ⟨Nat.le_of_ble_eq_true rfl, Nat.le_of_ble_eq_true rfl⟩ hS ⟨had2, had3, lo1_2_1, had2, had3, lo1_2_1⟩ hl.1 rfl (Nat.le_of_ble_eq_true rfl) dX1_square_9 ⟨Nat.le_of_ble_eq_true rfl, Nat.le_of_ble_eq_true rfl⟩) hS (fun ad9 H locs hp hS hz => ?_)
  obtain ⟨ad10, e11, e12, e13, e14, had9, had10, lo8_2_1, hO⟩ := hp
  have had2 := had2.ext hO
  have had3 := had3.ext hO
  have hF := hF.trans (hO.mono (fun _ _ z => z.elim))
  obtain rfl := Option.some.inj h
  rw [eQ]
  exact r_aret hx hb hr (Or.inl ⟨_, rfl⟩) hlk hS (Nat.le_of_ble_eq_true rfl) (Nat.le_of_ble_eq_true rfl) dX1_square_12 ⟨_, rfl, ad10, e11, e12, e13, e14, had9, had10, lo8_2_1, hF⟩

abbrev R_X1_isSlopeBy : Room := { frames := 7, cells := 23, slots := 170, locals := 178 }
noncomputable def f_X1_isSlopeBy (x0 : UInt64) (x1 : UInt64) (x2 : UInt64) : Option (Bool) :=
  Option.bind (f_X1_product x2 x1) fun o1 =>
  Option.bind (f_X1_isNear o1.1 o1.2.1 o1.2.2 x0 241) fun o8 =>
  some o8
theorem hd_X1_isSlopeBy : Hd yX1_isSlopeBy 3 := by unfold Hd; decide +kernel
set_option maxHeartbeats 4000000 in
set_option maxRecDepth 100000 in
theorem m_X1_isSlopeBy {l : Launch} {D : DD}   (x0 : UInt64) (x1 : UInt64) (x2 : UInt64) (r : Bool) (h : f_X1_isSlopeBy x0 x1 x2 = some r) : MT l D yX1_isSlopeBy cX1_isSlopeBy 6 (some .boolean) 7 178 23 170 [.double x0, .double x1, .double x2] NoPre (pZ (fun H b H' => b = r ∧ Off (fun _ => False) H H')) := by
  refine MT.start (by decide +kernel) (Nat.le_of_ble_eq_true rfl) ?_
  intro p e s m below meth c ls hC hS hp hl
  obtain ⟨hx, hb, hr, hlk, hml, hown, hts, hnm⟩ := id hC
  have hl : lv_has ls 6 [(0, .double x0), (2, .double x1), (4, .double x2)] := hl
  unfold f_X1_isSlopeBy at h
  have hS0 := hS
  obtain ⟨A, eA⟩ : ∃ A : Array Value, A = [.double x0, .double x1, .double x2].toArray := ⟨_, rfl⟩
  rw [← eA] at hC hts ⊢
  obtain ⟨Q, eQ⟩ : ∃ Q : State → Prop, Q = MQ below (TQ D (pZ (fun H b H' => b = r ∧ Off (fun _ => False) H H'))) A s 23 170 (fun q => dB D ≤ q) := ⟨_, rfl⟩
  have hF : Off (fun _ => False) s.heap s.heap := Off.rf
  show W p l e R_X1_isSlopeBy s m A below meth c s.heap [] 0 0 _ _
  rw [← eQ]
  obtain ⟨H, eH⟩ : ∃ H : Heap, H = s.heap := ⟨_, rfl⟩
  obtain ⟨locs, eLc⟩ : ∃ L : List Loc, L = [] := ⟨_, rfl⟩
  rw [← eH, ← eLc]
  have hF : Off (fun _ => False) s.heap H := by rw [eH]; exact hF
  have hS : St D s H locs := by rw [eH, eLc]; exact hS
  refine lv_dload hx hb dX1_isSlopeBy_0 (lv_at hl 2 rfl) ?_
  refine lv_dload_n hx hb dX1_isSlopeBy_2 rfl (lv_at hl 1 rfl) ?_
  obtain ⟨o1, eo1, h⟩ := bind_step h
  refine r_cr (r_runS (rest := []) (As := [.double x2, .double x1]) hC 2 (m_X1_product   x2 x1 o1 eo1) q900 q901 q46 q902 hd_X1_product rfl ⟨Nat.le_of_ble_eq_true rfl, Nat.le_of_ble_eq_true rfl⟩ hS trivial hl.1 rfl (Nat.le_of_ble_eq_true rfl) dX1_isSlopeBy_3 ⟨Nat.le_of_ble_eq_true rfl, Nat.le_of_ble_eq_true rfl⟩) hS (fun ad2 H locs hp hS hz => ?_)
  obtain ⟨ad3, e4, e5, e6, e7, had2, had3, lo1_2_1, hO⟩ := hp
  have hF := hF.trans (hO.mono (fun _ _ z => z.elim))
  refine lv_dload_n hx hb dX1_isSlopeBy_6 rfl (lv_at hl 0 rfl) ?_
  refine lv_sipush (v := 241) hx hb dX1_isSlopeBy_7 (by decide) ?_
  obtain ⟨o8, eo8, h⟩ := bind_step h
  refine r_cz (r_runS (rest := []) (As := [.ref ad2, .double x0, .int 241]) hC 3 (m_X1_isNear ad2 ad3 e4 e5 e6 e7 o1.1 o1.2.1 o1.2.2 x0 241 o8 eo8) q888 q889 q46 q890 hd_X1_isNear rfl ⟨Nat.le_of_ble_eq_true rfl, Nat.le_of_ble_eq_true rfl⟩ hS ⟨had2, had3, lo1_2_1⟩ hl.1 rfl (Nat.le_of_ble_eq_true rfl) dX1_isSlopeBy_10 ⟨Nat.le_of_ble_eq_true rfl, Nat.le_of_ble_eq_true rfl⟩) hS (fun b H locs hp hS hz => ?_)
  obtain ⟨eb_, hO⟩ := hp
  rw [eb_]
  have had2 := had2.ext hO
  have had3 := had3.ext hO
  have hF := hF.trans (hO.mono (fun _ _ z => z.elim))
  obtain rfl := Option.some.inj h
  rw [eQ]
  exact r_zret hx hb hr hlk hS (narB _) (Nat.le_of_ble_eq_true rfl) (Nat.le_of_ble_eq_true rfl) dX1_isSlopeBy_13 ⟨_, rfl, rfl, hF⟩

abbrev R_X1_isTwiceBy : Room := { frames := 9, cells := 35, slots := 315, locals := 1411 }
noncomputable def f_X1_isTwiceBy (x0 : Int32) (x1 : UInt64) (x2 : UInt64) (x3 : UInt64) : Option (Bool) :=
  (if x0 = 0 then
    Option.bind (f_X1_product x2 x3) fun o25 =>
    Option.bind (f_J16_shiftLeft o25.1 o25.2.1 o25.2.2 1) fun o32 =>
    Option.bind (f_J6_sin x1) fun o39 =>
    Option.bind (f_X1_isNear o32.1 o32.2.1 o32.2.2 o39 265) fun o40 =>
    some o40
  else
    Option.bind (f_X1_square x3) fun o2 =>
    Option.bind (f_X1_square x2) fun o9 =>
    Option.bind (f_J16_subtract_2 o2.1 o2.2.1 o2.2.2 o9.1 o9.2.1 o9.2.2) fun o16 =>
    Option.bind (f_J6_cos x1) fun o23 =>
    Option.bind (f_X1_isNear o16.1 o16.2.1 o16.2.2 o23 240) fun o24 =>
    some o24
  )
theorem hd_X1_isTwiceBy : Hd yX1_isTwiceBy 4 := by unfold Hd; decide +kernel
set_option maxHeartbeats 4000000 in
set_option maxRecDepth 100000 in
theorem m_X1_isTwiceBy {l : Launch} {D : DD}   (x0 : Int32) (x1 : UInt64) (x2 : UInt64) (x3 : UInt64) (r : Bool) (h : f_X1_isTwiceBy x0 x1 x2 x3 = some r) : MT l D yX1_isTwiceBy cX1_isTwiceBy 7 (some .boolean) 9 1411 35 315 [.int x0, .double x1, .double x2, .double x3] NoPre (pZ (fun H b H' => b = r ∧ Off (fun _ => False) H H')) := by
  refine MT.start (by decide +kernel) (Nat.le_of_ble_eq_true rfl) ?_
  intro p e s m below meth c ls hC hS hp hl
  obtain ⟨hx, hb, hr, hlk, hml, hown, hts, hnm⟩ := id hC
  have hl : lv_has ls 7 [(0, .int x0), (1, .double x1), (3, .double x2), (5, .double x3)] := hl
  unfold f_X1_isTwiceBy at h
  have hS0 := hS
  obtain ⟨A, eA⟩ : ∃ A : Array Value, A = [.int x0, .double x1, .double x2, .double x3].toArray := ⟨_, rfl⟩
  rw [← eA] at hC hts ⊢
  obtain ⟨Q, eQ⟩ : ∃ Q : State → Prop, Q = MQ below (TQ D (pZ (fun H b H' => b = r ∧ Off (fun _ => False) H H'))) A s 35 315 (fun q => dB D ≤ q) := ⟨_, rfl⟩
  have hF : Off (fun _ => False) s.heap s.heap := Off.rf
  show W p l e R_X1_isTwiceBy s m A below meth c s.heap [] 0 0 _ _
  rw [← eQ]
  obtain ⟨H, eH⟩ : ∃ H : Heap, H = s.heap := ⟨_, rfl⟩
  obtain ⟨locs, eLc⟩ : ∃ L : List Loc, L = [] := ⟨_, rfl⟩
  rw [← eH, ← eLc]
  have hF : Off (fun _ => False) s.heap H := by rw [eH]; exact hF
  have hS : St D s H locs := by rw [eH, eLc]; exact hS
  refine lv_iload_n hx hb dX1_isTwiceBy_0 rfl (lv_at hl 0 rfl) ?_
  refine lv_if_ne (tgt := 25) hx hb dX1_isTwiceBy_1 (by decide) (fun c1 => ?_) (fun c1 => ?_)
  · have h := it_neg h c1
    refine lv_dload hx hb dX1_isTwiceBy_25 (lv_at hl 3 rfl) ?_
    obtain ⟨o2, eo2, h⟩ := bind_step h
    refine r_cr (r_runS (rest := []) (As := [.double x3]) hC 1 (m_X1_square   x3 o2 eo2) q409 q410 q46 q411 hd_X1_square rfl ⟨Nat.le_of_ble_eq_true rfl, Nat.le_of_ble_eq_true rfl⟩ hS trivial hl.1 rfl (Nat.le_of_ble_eq_true rfl) dX1_isTwiceBy_27 ⟨Nat.le_of_ble_eq_true rfl, Nat.le_of_ble_eq_true rfl⟩) hS (fun ad3 H locs hp hS hz => ?_)
    obtain ⟨ad4, e5, e6, e7, e8, had3, had4, lo2_2_1, hO⟩ := hp
    have hF := hF.trans (hO.mono (fun _ _ z => z.elim))
    refine lv_dload_n hx hb dX1_isTwiceBy_30 rfl (lv_at hl 2 rfl) ?_
    obtain ⟨o9, eo9, h⟩ := bind_step h
    refine r_cr (r_runS (rest := [.ref ad3]) (As := [.double x2]) hC 1 (m_X1_square   x2 o9 eo9) q409 q410 q46 q411 hd_X1_square rfl ⟨Nat.le_of_ble_eq_true rfl, Nat.le_of_ble_eq_true rfl⟩ hS trivial hl.1 rfl (Nat.le_of_ble_eq_true rfl) dX1_isTwiceBy_31 ⟨Nat.le_of_ble_eq_true rfl, Nat.le_of_ble_eq_true rfl⟩) hS (fun ad10 H locs hp hS hz => ?_)
    obtain ⟨ad11, e12, e13, e14, e15, had10, had11, lo9_2_1, hO⟩ := hp
    have had3 := had3.ext hO
    have had4 := had4.ext hO
    have hF := hF.trans (hO.mono (fun _ _ z => z.elim))
    obtain ⟨o16, eo16, h⟩ := bind_step h
    refine r_cr (r_runV (rest := []) (As := [.ref ad10]) hC 1 (m_J16_subtract_2 ad3 ad4 ad10 ad11 e5 e6 e7 e8 e12 e13 e14 e15 o2.1 o2.2.1 o2.2.2 o9.1 o9.2.1 o9.2.2 o16 eo16) q891 q844 q845 q57 q846 (OA.recv hS had3 (C := RJ16) rfl) hd_J16_subtract_2 rfl ⟨Nat.le_of_ble_eq_true rfl, Nat.le_of_ble_eq_true rfl⟩ hS ⟨had3, had4, lo2_2_1, had10, had11, lo9_2_1⟩ hl.1 rfl (Nat.le_of_ble_eq_true rfl) dX1_isTwiceBy_34 ⟨Nat.le_of_ble_eq_true rfl, Nat.le_of_ble_eq_true rfl⟩) hS (fun ad17 H locs hp hS hz => ?_)
    obtain ⟨ad18, e19, e20, e21, e22, had17, had18, lo16_2_1, hO⟩ := hp
    have had3 := had3.ext hO
    have had4 := had4.ext hO
    have had10 := had10.ext hO
    have had11 := had11.ext hO
    have hF := hF.trans (hO.mono (fun _ _ z => z.elim))
    refine lv_dload_n hx hb dX1_isTwiceBy_37 rfl (lv_at hl 1 rfl) ?_
    obtain ⟨o23, eo23, h⟩ := bind_step h
    refine r_cd (r_runS (rest := [.ref ad17]) (As := [.double x1]) hC 1 (m_J6_cos x1  o23 eo23) q318 q319 q47 q320 hd_J6_cos rfl ⟨Nat.le_of_ble_eq_true rfl, Nat.le_of_ble_eq_true rfl⟩ hS trivial hl.1 rfl (Nat.le_of_ble_eq_true rfl) dX1_isTwiceBy_38 ⟨Nat.le_of_ble_eq_true rfl, Nat.le_of_ble_eq_true rfl⟩) hS (fun b H locs hp hS hz => ?_)
    obtain ⟨eb_, hO⟩ := hp
    rw [eb_]
    have had3 := had3.ext hO
    have had4 := had4.ext hO
    have had10 := had10.ext hO
    have had11 := had11.ext hO
    have had17 := had17.ext hO
    have had18 := had18.ext hO
    have hF := hF.trans (hO.mono (fun _ _ z => z.elim))
    refine lv_sipush (v := 240) hx hb dX1_isTwiceBy_41 (by decide) ?_
    obtain ⟨o24, eo24, h⟩ := bind_step h
    refine r_cz (r_runS (rest := []) (As := [.ref ad17, .double o23, .int 240]) hC 3 (m_X1_isNear ad17 ad18 e19 e20 e21 e22 o16.1 o16.2.1 o16.2.2 o23 240 o24 eo24) q888 q889 q46 q890 hd_X1_isNear rfl ⟨Nat.le_of_ble_eq_true rfl, Nat.le_of_ble_eq_true rfl⟩ hS ⟨had17, had18, lo16_2_1⟩ hl.1 rfl (Nat.le_of_ble_eq_true rfl) dX1_isTwiceBy_44 ⟨Nat.le_of_ble_eq_true rfl, Nat.le_of_ble_eq_true rfl⟩) hS (fun b H locs hp hS hz => ?_)
    obtain ⟨eb_, hO⟩ := hp
    rw [eb_]
    have had3 := had3.ext hO
    have had4 := had4.ext hO
    have had10 := had10.ext hO
    have had11 := had11.ext hO
    have had17 := had17.ext hO
    have had18 := had18.ext hO
    have hF := hF.trans (hO.mono (fun _ _ z => z.elim))
    obtain rfl := Option.some.inj h
    rw [eQ]
    exact r_zret hx hb hr hlk hS (narB _) (Nat.le_of_ble_eq_true rfl) (Nat.le_of_ble_eq_true rfl) dX1_isTwiceBy_47 ⟨_, rfl, rfl, hF⟩
  · have h := it_pos h c1
    refine lv_dload_n hx hb dX1_isTwiceBy_4 rfl (lv_at hl 2 rfl) ?_
    refine lv_dload hx hb dX1_isTwiceBy_5 (lv_at hl 3 rfl) ?_
    obtain ⟨o25, eo25, h⟩ := bind_step h
    refine r_cr (r_runS (rest := []) (As := [.double x2, .double x3]) hC 2 (m_X1_product   x2 x3 o25 eo25) q900 q901 q46 q902 hd_X1_product rfl ⟨Nat.le_of_ble_eq_true rfl, Nat.le_of_ble_eq_true rfl⟩ hS trivial hl.1 rfl (Nat.le_of_ble_eq_true rfl) dX1_isTwiceBy_7 ⟨Nat.le_of_ble_eq_true rfl, Nat.le_of_ble_eq_true rfl⟩) hS (fun ad26 H locs hp hS hz => ?_)
    obtain ⟨ad27, e28, e29, e30, e31, had26, had27, lo25_2_1, hO⟩ := hp
    have hF := hF.trans (hO.mono (fun _ _ z => z.elim))
    refine lv_iconst (v := 1) hx hb dX1_isTwiceBy_10 (by decide) ?_
    obtain ⟨o32, eo32, h⟩ := bind_step h
    refine r_cr (r_runV (rest := []) (As := [.int 1]) hC 1 (m_J16_shiftLeft ad26 ad27 e28 e29 e30 e31 o25.1 o25.2.1 o25.2.2 1 o32 eo32) q454 q455 q456 q57 q457 (OA.recv hS had26 (C := RJ16) rfl) hd_J16_shiftLeft rfl ⟨Nat.le_of_ble_eq_true rfl, Nat.le_of_ble_eq_true rfl⟩ hS ⟨had26, had27, lo25_2_1⟩ hl.1 rfl (Nat.le_of_ble_eq_true rfl) dX1_isTwiceBy_11 ⟨Nat.le_of_ble_eq_true rfl, Nat.le_of_ble_eq_true rfl⟩) hS (fun ad33 H locs hp hS hz => ?_)
    obtain ⟨ad34, e35, e36, e37, e38, had33, had34, lo32_2_1, hO⟩ := hp
    have had26 := had26.ext hO
    have had27 := had27.ext hO
    have hF := hF.trans (hO.mono (fun _ _ z => z.elim))
    refine lv_dload_n hx hb dX1_isTwiceBy_14 rfl (lv_at hl 1 rfl) ?_
    obtain ⟨o39, eo39, h⟩ := bind_step h
    refine r_cd (r_runS (rest := [.ref ad33]) (As := [.double x1]) hC 1 (m_J6_sin x1  o39 eo39) q173 q174 q47 q175 hd_J6_sin rfl ⟨Nat.le_of_ble_eq_true rfl, Nat.le_of_ble_eq_true rfl⟩ hS trivial hl.1 rfl (Nat.le_of_ble_eq_true rfl) dX1_isTwiceBy_15 ⟨Nat.le_of_ble_eq_true rfl, Nat.le_of_ble_eq_true rfl⟩) hS (fun b H locs hp hS hz => ?_)
    obtain ⟨eb_, hO⟩ := hp
    rw [eb_]
    have had26 := had26.ext hO
    have had27 := had27.ext hO
    have had33 := had33.ext hO
    have had34 := had34.ext hO
    have hF := hF.trans (hO.mono (fun _ _ z => z.elim))
    refine lv_sipush (v := 265) hx hb dX1_isTwiceBy_18 (by decide) ?_
    obtain ⟨o40, eo40, h⟩ := bind_step h
    refine r_cz (r_runS (rest := []) (As := [.ref ad33, .double o39, .int 265]) hC 3 (m_X1_isNear ad33 ad34 e35 e36 e37 e38 o32.1 o32.2.1 o32.2.2 o39 265 o40 eo40) q888 q889 q46 q890 hd_X1_isNear rfl ⟨Nat.le_of_ble_eq_true rfl, Nat.le_of_ble_eq_true rfl⟩ hS ⟨had33, had34, lo32_2_1⟩ hl.1 rfl (Nat.le_of_ble_eq_true rfl) dX1_isTwiceBy_21 ⟨Nat.le_of_ble_eq_true rfl, Nat.le_of_ble_eq_true rfl⟩) hS (fun b H locs hp hS hz => ?_)
    obtain ⟨eb_, hO⟩ := hp
    rw [eb_]
    have had26 := had26.ext hO
    have had27 := had27.ext hO
    have had33 := had33.ext hO
    have had34 := had34.ext hO
    have hF := hF.trans (hO.mono (fun _ _ z => z.elim))
    obtain rfl := Option.some.inj h
    rw [eQ]
    exact r_zret hx hb hr hlk hS (narB _) (Nat.le_of_ble_eq_true rfl) (Nat.le_of_ble_eq_true rfl) dX1_isTwiceBy_24 ⟨_, rfl, rfl, hF⟩

abbrev R_X1_isStep : Room := { frames := 5, cells := 0, slots := 0, locals := 112 }
noncomputable def f_X1_isStep (x0 : UInt64) : Option (Bool) :=
  Option.bind (f_X1_eighthsOf x0) fun o1 =>
  (if o1 = (-2147483648) then
    some false
  else
    ck (daddF x0 4593671619917905920) fun v3 =>
    Option.bind (f_X1_eighthsOf v3) fun o4 =>
    (if o4 = (-2147483648) then
      some false
    else
      some true
    )
  )
theorem hd_X1_isStep : Hd yX1_isStep 1 := by unfold Hd; decide +kernel
set_option maxHeartbeats 4000000 in
set_option maxRecDepth 100000 in
theorem m_X1_isStep {l : Launch} {D : DD}   (x0 : UInt64) (r : Bool) (h : f_X1_isStep x0 = some r) : MP l D yX1_isStep cX1_isStep 2 (some .boolean) 5 112 [.double x0] NoPre (some (.int (bI r))) := by
  refine MP.start (by decide +kernel) (Nat.le_of_ble_eq_true rfl) ?_
  intro p e s m below meth c ls hC hS hp hl
  obtain ⟨hx, hb, hr, hlk, hml, hown, hts, hnm⟩ := id hC
  have hl : lv_has ls 2 [(0, .double x0)] := hl
  unfold f_X1_isStep at h
  have hS0 := hS
  obtain ⟨A, eA⟩ : ∃ A : Array Value, A = [.double x0].toArray := ⟨_, rfl⟩
  rw [← eA] at hC hts ⊢
  obtain ⟨Q, eQ⟩ : ∃ Q : State → Prop, Q = MQ below (PQ (some (.int (bI r)))) A s 0 0 (fun _ => False) := ⟨_, rfl⟩
  show W p l e R_X1_isStep s m A below meth c s.heap [] 0 0 _ _
  rw [← eQ]
  refine lv_dload_n hx hb dX1_isStep_0 rfl (lv_at hl 0 rfl) ?_
  obtain ⟨o1, eo1, h⟩ := bind_step h
  refine r_cp (r_runS (rest := []) (As := [.double x0]) hC 1 (m_X1_eighthsOf   x0 o1 eo1) q357 q358 q46 q359 hd_X1_eighthsOf rfl ⟨Nat.le_of_ble_eq_true rfl, Nat.le_of_ble_eq_true rfl⟩ hS trivial hl.1 rfl (Nat.le_of_ble_eq_true rfl) dX1_isStep_1 ⟨Nat.le_of_ble_eq_true rfl, Nat.le_of_ble_eq_true rfl⟩) ?_
  refine lv_ldc hx hb (v := (-2147483648)) hown (hts _ q379) dX1_isStep_4 ?_
  refine lv_icmp_eq (tgt := 26) hx hb dX1_isStep_6 (by decide) (fun c2 => ?_) (fun c2 => ?_)
  · have h := it_pos h c2
    refine lv_iconst (v := 0) hx hb dX1_isStep_26 (by decide) ?_
    obtain rfl := Option.some.inj h
    rw [eQ]
    exact p_zret hx hb hr hlk (by decide) dX1_isStep_27 rfl
  · have h := it_neg h c2
    refine lv_dload_n hx hb dX1_isStep_9 rfl (lv_at hl 0 rfl) ?_
    refine lv_ldc2d hx hb (v := 4593671619917905920) hown (hts _ q910) dX1_isStep_10 ?_
    obtain ⟨v3, ev3, nv3, h⟩ := ck_step h
    refine r_dadd hx hb ev3 nv3 dX1_isStep_13 ?_
    obtain ⟨o4, eo4, h⟩ := bind_step h
    refine r_cp (r_runS (rest := []) (As := [.double v3]) hC 1 (m_X1_eighthsOf   v3 o4 eo4) q357 q358 q46 q359 hd_X1_eighthsOf rfl ⟨Nat.le_of_ble_eq_true rfl, Nat.le_of_ble_eq_true rfl⟩ hS trivial hl.1 rfl (Nat.le_of_ble_eq_true rfl) dX1_isStep_14 ⟨Nat.le_of_ble_eq_true rfl, Nat.le_of_ble_eq_true rfl⟩) ?_
    refine lv_ldc hx hb (v := (-2147483648)) hown (hts _ q379) dX1_isStep_17 ?_
    refine lv_icmp_eq (tgt := 26) hx hb dX1_isStep_19 (by decide) (fun c5 => ?_) (fun c5 => ?_)
    · have h := it_pos h c5
      refine lv_iconst (v := 0) hx hb dX1_isStep_26 (by decide) ?_
      obtain rfl := Option.some.inj h
      rw [eQ]
      exact p_zret hx hb hr hlk (by decide) dX1_isStep_27 rfl
    · have h := it_neg h c5
      refine lv_iconst (v := 1) hx hb dX1_isStep_22 (by decide) ?_
      refine lv_goto (tgt := 27) hx hb dX1_isStep_23 (by decide) ?_
      obtain rfl := Option.some.inj h
      rw [eQ]
      exact p_zret hx hb hr hlk (by decide) dX1_isStep_27 rfl

abbrev R_X1_angleText : Room := { frames := 6, cells := 5, slots := 128, locals := 149 }
noncomputable def f_X1_angleText (x0r0c : Nat → UInt64) (x0r1c : Nat → UInt64) (x0r2c : Nat → Int32) (x0f3 : Int32) (x0f4 : Int32) (x0f5 : Int32) (x0f6 : Int32) (x1 : Int32) : Option (Nat × (Nat → Int32)) :=
  Option.bind (f_X1_angleAt x0r0c x0r1c x0r2c x0f3 x0f4 x0f5 x0f6 x1) fun o1 =>
  Option.bind (f_J22_init ()) fun o3 =>
  Option.bind (f_X1_signOf o1) fun o5 =>
  Option.bind (f_J22_append_2_A o3.1 o3.2 0 o5) fun o6 =>
  Option.bind (f_J22_append_3_A o3.1 o6.2 o6.1 32) fun o8 =>
  Option.bind (f_X1_exponentOf o1) fun o10 =>
  Option.bind (f_J22_append_2_A o3.1 o8.2 o8.1 o10) fun o11 =>
  Option.bind (f_J22_append_3_A o3.1 o11.2 o11.1 32) fun o13 =>
  Option.bind (f_X1_fractionOf o1) fun o15 =>
  alt (f_J22_append_4_A o3.1 o13.2 o13.1 o15) (fun o16 =>
    Option.bind (f_J22_toString o3.1 o16.2 o16.1) fun o18 =>
    some (o18.1, o18.2)
  ) (
  Option.bind (f_J22_append_4_B o3.1 o13.2 o13.1 o15) fun o21 =>
  Option.bind (f_J22_toString o21.2.1 o21.2.2 o21.1) fun o24 =>
  some (o24.1, o24.2)
  )
theorem hd_X1_angleText : Hd yX1_angleText 1 := by unfold Hd; decide +kernel
set_option maxHeartbeats 4000000 in
set_option maxRecDepth 100000 in
theorem m_X1_angleText {l : Launch} {D : DD} (x0 : Nat) (x0r0 : Nat) (x0r1 : Nat) (x0r2 : Nat)  (x0r0c : Nat → UInt64) (x0r1c : Nat → UInt64) (x0r2c : Nat → Int32) (x0f3 : Int32) (x0f4 : Int32) (x0f5 : Int32) (x0f6 : Int32) (x1 : Int32) (r : Nat × (Nat → Int32)) (h : f_X1_angleText x0r0c x0r1c x0r2c x0f3 x0f4 x0f5 x0f6 x1 = some r) : MT l D yX1_angleText cX1_angleText 5 (some (.object "java/lang/String")) 6 149 5 128 [.ref x0, .int x1] (fun H => ON D 0 x0 [.ref x0r0, .ref x0r1, .ref x0r2, .int x0f3, .int x0f4, .int x0f5, .int x0f6] H ∧ aD D x0r0 8 x0r0c H ∧ aD D x0r1 8 x0r1c H ∧ aZ D x0r2 8 x0r2c H) (pR (fun H b H' => ∃ b_0 : Nat, ON D 3 b [.ref b_0, .int 0, .int 0, .int 0] H' ∧ aB D b_0 r.1 r.2 H' ∧ r.1 ≤ 1000000 ∧ H.size ≤ b_0 ∧ H.size ≤ b ∧ b ≠ b_0 ∧ Off (fun _ => False) H H')) := by
  refine MT.start (by decide +kernel) (Nat.le_of_ble_eq_true rfl) ?_
  intro p e s m below meth c ls hC hS hp hl
  obtain ⟨h_x0, h_x0r0, h_x0r1, h_x0r2⟩ := hp
  obtain ⟨hx, hb, hr, hlk, hml, hown, hts, hnm⟩ := id hC
  have hl : lv_has ls 5 [(0, .ref x0), (1, .int x1)] := hl
  unfold f_X1_angleText at h
  have hS0 := hS
  obtain ⟨A, eA⟩ : ∃ A : Array Value, A = [.ref x0, .int x1].toArray := ⟨_, rfl⟩
  rw [← eA] at hC hts ⊢
  obtain ⟨Q, eQ⟩ : ∃ Q : State → Prop, Q = MQ below (TQ D (pR (fun H b H' => ∃ b_0 : Nat, ON D 3 b [.ref b_0, .int 0, .int 0, .int 0] H' ∧ aB D b_0 r.1 r.2 H' ∧ r.1 ≤ 1000000 ∧ H.size ≤ b_0 ∧ H.size ≤ b ∧ b ≠ b_0 ∧ Off (fun _ => False) H H'))) A s 5 128 (fun q => dB D ≤ q) := ⟨_, rfl⟩
  have hF : Off (fun _ => False) s.heap s.heap := Off.rf
  show W p l e R_X1_angleText s m A below meth c s.heap [] 0 0 _ _
  rw [← eQ]
  obtain ⟨H, eH⟩ : ∃ H : Heap, H = s.heap := ⟨_, rfl⟩
  obtain ⟨locs, eLc⟩ : ∃ L : List Loc, L = [] := ⟨_, rfl⟩
  have lt_h_x0 := h_x0.lt
  have lt_h_x0r0 := h_x0r0.lt
  have lt_h_x0r1 := h_x0r1.lt
  have lt_h_x0r2 := h_x0r2.lt
  rw [← eH, ← eLc]
  have hF : Off (fun _ => False) s.heap H := by rw [eH]; exact hF
  rw [← eH] at h_x0
  rw [← eH] at h_x0r0
  rw [← eH] at h_x0r1
  rw [← eH] at h_x0r2
  have hS : St D s H locs := by rw [eH, eLc]; exact hS
  refine lv_aload_n hx hb dX1_angleText_0 rfl (lv_at hl 0 rfl) ?_
  refine lv_iload_n hx hb dX1_angleText_1 rfl (lv_at hl 1 rfl) ?_
  obtain ⟨o1, eo1, h⟩ := bind_step h
  refine r_cp (r_runV (rest := []) (As := [.int x1]) hC 1 (m_X1_angleAt x0 x0r0 x0r1 x0r2  x0r0c x0r1c x0r2c x0f3 x0f4 x0f5 x0f6 x1 o1 eo1) q952 q954 qs11 q46 q955 (OA.recv hS h_x0.OA (C := RX1) rfl) hd_X1_angleAt rfl ⟨Nat.le_of_ble_eq_true rfl, Nat.le_of_ble_eq_true rfl⟩ hS ⟨h_x0, h_x0r0, h_x0r1, h_x0r2⟩ hl.1 rfl (Nat.le_of_ble_eq_true rfl) dX1_angleText_2 ⟨Nat.le_of_ble_eq_true rfl, Nat.le_of_ble_eq_true rfl⟩) ?_
  refine lv_dstore_n (lv' := [(2, .double o1), (0, .ref x0), (1, .int x1)]) hx hb dX1_angleText_5 rfl hl (by decide) rfl (fun ls hl => ?_)
  refine r_new (k := 4) hx hb hts hown hS rfl in_J22 tyJ22 tyJ22_ok q980 q535 q64 (fs := [.null, .int 0, .int 0, .int 0]) rfl (by decide) (Nat.le_of_ble_eq_true rfl) (Nat.le_of_ble_eq_true rfl) dX1_angleText_6 (fun ad2 H eq_ad2 hS hE had2 z_ad2 hB_had2 => ?_)
  have gad2 : s.heap.size ≤ ad2 := by have := hF.1; omega
  have ne_h_x0_had2 : x0 ≠ ad2 := by have := h_x0.lt; omega
  have h_x0 := h_x0.ext hE
  have ne_h_x0r0_had2 : x0r0 ≠ ad2 := by have := h_x0r0.lt; omega
  have h_x0r0 := h_x0r0.ext hE
  have ne_h_x0r1_had2 : x0r1 ≠ ad2 := by have := h_x0r1.lt; omega
  have h_x0r1 := h_x0r1.ext hE
  have ne_h_x0r2_had2 : x0r2 ≠ ad2 := by have := h_x0r2.lt; omega
  have h_x0r2 := h_x0r2.ext hE
  have hF := hF.trans (hE.mono (fun _ _ z => z.elim))
  refine lv_dup hx hb dX1_angleText_9 rfl ?_
  obtain ⟨o3, eo3, h⟩ := bind_step h
  have ltp_had2 := had2.lt
  refine r_cv (r_runI (rest := [.ref ad2]) (As := []) hC 0 (m_J22_init ad2   o3 eo3) q981 q537 q64 q538 rfl hd_J22_init rfl ⟨Nat.le_of_ble_eq_true rfl, Nat.le_of_ble_eq_true rfl⟩ hS ⟨had2, hB_had2⟩ hl.1 rfl (Nat.le_of_ble_eq_true rfl) dX1_angleText_10 ⟨Nat.le_of_ble_eq_true rfl, Nat.le_of_ble_eq_true rfl⟩) hS (fun H locs hp hS hz => ?_)
  obtain ⟨ad4, had2, had4, lo3_1, frad4, hO⟩ := hp
  have ne_h_x0_had4 : x0 ≠ ad4 := Nat.ne_of_lt (Nat.lt_of_lt_of_le h_x0.lt frad4)
  have ne_h_x0r0_had4 : x0r0 ≠ ad4 := Nat.ne_of_lt (Nat.lt_of_lt_of_le h_x0r0.lt frad4)
  have ne_h_x0r1_had4 : x0r1 ≠ ad4 := Nat.ne_of_lt (Nat.lt_of_lt_of_le h_x0r1.lt frad4)
  have ne_h_x0r2_had4 : x0r2 ≠ ad4 := Nat.ne_of_lt (Nat.lt_of_lt_of_le h_x0r2.lt frad4)
  have ne_had2_had4 : ad2 ≠ ad4 := Nat.ne_of_lt (Nat.lt_of_lt_of_le ltp_had2 frad4)
  have gad4 : s.heap.size ≤ ad4 := Nat.le_trans hF.1 frad4
  have hB_had4 : dB D ≤ ad4 := by have := hS0.1.2.2.1; omega
  have h_x0 := h_x0.off hO ne_h_x0_had2
  have h_x0r0 := h_x0r0.off hO ne_h_x0r0_had2
  have h_x0r1 := h_x0r1.off hO ne_h_x0r1_had2
  have h_x0r2 := h_x0r2.off hO ne_h_x0r2_had2
  have hF := hF.fresh hO (fun a ha z => absurd (z ▸ ha) (Nat.not_lt.mpr gad2))
  refine lv_astore (lv' := [(4, .ref ad2), (2, .double o1), (0, .ref x0), (1, .int x1)]) hx hb dX1_angleText_13 hl (by decide) rfl (fun ls hl => ?_)
  refine lv_aload hx hb dX1_angleText_15 (lv_at hl 0 rfl) ?_
  refine lv_dload_n hx hb dX1_angleText_17 rfl (lv_at hl 1 rfl) ?_
  obtain ⟨o5, eo5, h⟩ := bind_step h
  refine r_cp (r_runS (rest := [.ref ad2]) (As := [.double o1]) hC 1 (m_X1_signOf   o1 o5 eo5) q386 q387 q46 q388 hd_X1_signOf rfl ⟨Nat.le_of_ble_eq_true rfl, Nat.le_of_ble_eq_true rfl⟩ hS trivial hl.1 rfl (Nat.le_of_ble_eq_true rfl) dX1_angleText_18 ⟨Nat.le_of_ble_eq_true rfl, Nat.le_of_ble_eq_true rfl⟩) ?_
  obtain ⟨o6, eo6, h⟩ := bind_step h
  refine r_cr (r_runV (rest := []) (As := [.int o5]) hC 1 (m_J22_append_2_A ad2 ad4  o3.1 o3.2 0 o5 o6 eo6) q982 q675 q676 q64 q677 (OA.recv hS had2.OA (C := RJ22) rfl) hd_J22_append_2_A rfl ⟨Nat.le_of_ble_eq_true rfl, Nat.le_of_ble_eq_true rfl⟩ hS ⟨had2, hB_had2, had4, lo3_1, hB_had4, ne_had2_had4⟩ hl.1 rfl (Nat.le_of_ble_eq_true rfl) dX1_angleText_21 ⟨Nat.le_of_ble_eq_true rfl, Nat.le_of_ble_eq_true rfl⟩) hS (fun b H locs hp hS hz => ?_)
  obtain ⟨eb_, had2, had4, hO⟩ := hp
  rw [eb_]
  have h_x0 := h_x0.off hO (fun z => by rcases z with z | z <;> first | exact ne_h_x0_had2 z | exact ne_h_x0_had4 z)
  have h_x0r0 := h_x0r0.off hO (fun z => by rcases z with z | z <;> first | exact ne_h_x0r0_had2 z | exact ne_h_x0r0_had4 z)
  have h_x0r1 := h_x0r1.off hO (fun z => by rcases z with z | z <;> first | exact ne_h_x0r1_had2 z | exact ne_h_x0r1_had4 z)
  have h_x0r2 := h_x0r2.off hO (fun z => by rcases z with z | z <;> first | exact ne_h_x0r2_had2 z | exact ne_h_x0r2_had4 z)
  have hF := hF.fresh hO (fun a ha z => by
    rcases z with z | z
    · exact absurd (z ▸ ha) (Nat.not_lt.mpr gad2)
    · exact absurd (z ▸ ha) (Nat.not_lt.mpr gad4))
  refine lv_bipush (v := 32) hx hb dX1_angleText_24 (by decide) ?_
  obtain ⟨o8, eo8, h⟩ := bind_step h
  refine r_cr (r_runV (rest := []) (As := [.int 32]) hC 1 (m_J22_append_3_A ad2 ad4  o3.1 o6.2 o6.1 32 o8 eo8) q983 q984 q985 q64 q986 (OA.recv hS had2.OA (C := RJ22) rfl) hd_J22_append_3_A rfl ⟨Nat.le_of_ble_eq_true rfl, Nat.le_of_ble_eq_true rfl⟩ hS ⟨had2, hB_had2, had4, lo3_1, hB_had4, ne_had2_had4⟩ hl.1 rfl (Nat.le_of_ble_eq_true rfl) dX1_angleText_26 ⟨Nat.le_of_ble_eq_true rfl, Nat.le_of_ble_eq_true rfl⟩) hS (fun b H locs hp hS hz => ?_)
  obtain ⟨eb_, had2, had4, hO⟩ := hp
  rw [eb_]
  have h_x0 := h_x0.off hO (fun z => by rcases z with z | z <;> first | exact ne_h_x0_had2 z | exact ne_h_x0_had4 z)
  have h_x0r0 := h_x0r0.off hO (fun z => by rcases z with z | z <;> first | exact ne_h_x0r0_had2 z | exact ne_h_x0r0_had4 z)
  have h_x0r1 := h_x0r1.off hO (fun z => by rcases z with z | z <;> first | exact ne_h_x0r1_had2 z | exact ne_h_x0r1_had4 z)
  have h_x0r2 := h_x0r2.off hO (fun z => by rcases z with z | z <;> first | exact ne_h_x0r2_had2 z | exact ne_h_x0r2_had4 z)
  have hF := hF.fresh hO (fun a ha z => by
    rcases z with z | z
    · exact absurd (z ▸ ha) (Nat.not_lt.mpr gad2)
    · exact absurd (z ▸ ha) (Nat.not_lt.mpr gad4))
  refine lv_dload_n hx hb dX1_angleText_29 rfl (lv_at hl 1 rfl) ?_
  obtain ⟨o10, eo10, h⟩ := bind_step h
  refine r_cp (r_runS (rest := [.ref ad2]) (As := [.double o1]) hC 1 (m_X1_exponentOf   o1 o10 eo10) q360 q361 q46 q362 hd_X1_exponentOf rfl ⟨Nat.le_of_ble_eq_true rfl, Nat.le_of_ble_eq_true rfl⟩ hS trivial hl.1 rfl (Nat.le_of_ble_eq_true rfl) dX1_angleText_30 ⟨Nat.le_of_ble_eq_true rfl, Nat.le_of_ble_eq_true rfl⟩) ?_
  obtain ⟨o11, eo11, h⟩ := bind_step h
  refine r_cr (r_runV (rest := []) (As := [.int o10]) hC 1 (m_J22_append_2_A ad2 ad4  o3.1 o8.2 o8.1 o10 o11 eo11) q982 q675 q676 q64 q677 (OA.recv hS had2.OA (C := RJ22) rfl) hd_J22_append_2_A rfl ⟨Nat.le_of_ble_eq_true rfl, Nat.le_of_ble_eq_true rfl⟩ hS ⟨had2, hB_had2, had4, lo3_1, hB_had4, ne_had2_had4⟩ hl.1 rfl (Nat.le_of_ble_eq_true rfl) dX1_angleText_33 ⟨Nat.le_of_ble_eq_true rfl, Nat.le_of_ble_eq_true rfl⟩) hS (fun b H locs hp hS hz => ?_)
  obtain ⟨eb_, had2, had4, hO⟩ := hp
  rw [eb_]
  have h_x0 := h_x0.off hO (fun z => by rcases z with z | z <;> first | exact ne_h_x0_had2 z | exact ne_h_x0_had4 z)
  have h_x0r0 := h_x0r0.off hO (fun z => by rcases z with z | z <;> first | exact ne_h_x0r0_had2 z | exact ne_h_x0r0_had4 z)
  have h_x0r1 := h_x0r1.off hO (fun z => by rcases z with z | z <;> first | exact ne_h_x0r1_had2 z | exact ne_h_x0r1_had4 z)
  have h_x0r2 := h_x0r2.off hO (fun z => by rcases z with z | z <;> first | exact ne_h_x0r2_had2 z | exact ne_h_x0r2_had4 z)
  have hF := hF.fresh hO (fun a ha z => by
    rcases z with z | z
    · exact absurd (z ▸ ha) (Nat.not_lt.mpr gad2)
    · exact absurd (z ▸ ha) (Nat.not_lt.mpr gad4))
  refine lv_bipush (v := 32) hx hb dX1_angleText_36 (by decide) ?_
  obtain ⟨o13, eo13, h⟩ := bind_step h
  refine r_cr (r_runV (rest := []) (As := [.int 32]) hC 1 (m_J22_append_3_A ad2 ad4  o3.1 o11.2 o11.1 32 o13 eo13) q983 q984 q985 q64 q986 (OA.recv hS had2.OA (C := RJ22) rfl) hd_J22_append_3_A rfl ⟨Nat.le_of_ble_eq_true rfl, Nat.le_of_ble_eq_true rfl⟩ hS ⟨had2, hB_had2, had4, lo3_1, hB_had4, ne_had2_had4⟩ hl.1 rfl (Nat.le_of_ble_eq_true rfl) dX1_angleText_38 ⟨Nat.le_of_ble_eq_true rfl, Nat.le_of_ble_eq_true rfl⟩) hS (fun b H locs hp hS hz => ?_)
  obtain ⟨eb_, had2, had4, hO⟩ := hp
  rw [eb_]
  have h_x0 := h_x0.off hO (fun z => by rcases z with z | z <;> first | exact ne_h_x0_had2 z | exact ne_h_x0_had4 z)
  have h_x0r0 := h_x0r0.off hO (fun z => by rcases z with z | z <;> first | exact ne_h_x0r0_had2 z | exact ne_h_x0r0_had4 z)
  have h_x0r1 := h_x0r1.off hO (fun z => by rcases z with z | z <;> first | exact ne_h_x0r1_had2 z | exact ne_h_x0r1_had4 z)
  have h_x0r2 := h_x0r2.off hO (fun z => by rcases z with z | z <;> first | exact ne_h_x0r2_had2 z | exact ne_h_x0r2_had4 z)
  have hF := hF.fresh hO (fun a ha z => by
    rcases z with z | z
    · exact absurd (z ▸ ha) (Nat.not_lt.mpr gad2)
    · exact absurd (z ▸ ha) (Nat.not_lt.mpr gad4))
  refine lv_pop hx hb dX1_angleText_41 rfl ?_
  refine lv_aload hx hb dX1_angleText_42 (lv_at hl 0 rfl) ?_
  refine lv_dload_n hx hb dX1_angleText_44 rfl (lv_at hl 1 rfl) ?_
  obtain ⟨o15, eo15, h⟩ := bind_step h
  refine r_cp (r_runS (rest := [.ref ad2]) (As := [.double o1]) hC 1 (m_X1_fractionOf   o1 o15 eo15) q381 q382 q46 q383 hd_X1_fractionOf rfl ⟨Nat.le_of_ble_eq_true rfl, Nat.le_of_ble_eq_true rfl⟩ hS trivial hl.1 rfl (Nat.le_of_ble_eq_true rfl) dX1_angleText_45 ⟨Nat.le_of_ble_eq_true rfl, Nat.le_of_ble_eq_true rfl⟩) ?_
  rcases alt_step h with ⟨o16, eo16, h⟩ | h
  · refine r_cr (r_runV (rest := []) (As := [.long o15]) hC 1 (m_J22_append_4_A ad2 ad4  o3.1 o13.2 o13.1 o15 o16 eo16) q1005 q1006 q1007 q64 q1008 (OA.recv hS had2.OA (C := RJ22) rfl) hd_J22_append_4_A rfl ⟨Nat.le_of_ble_eq_true rfl, Nat.le_of_ble_eq_true rfl⟩ hS ⟨had2, hB_had2, had4, lo3_1, hB_had4, ne_had2_had4⟩ hl.1 rfl (Nat.le_of_ble_eq_true rfl) dX1_angleText_48 ⟨Nat.le_of_ble_eq_true rfl, Nat.le_of_ble_eq_true rfl⟩) hS (fun b H locs hp hS hz => ?_)
    obtain ⟨eb_, had2, had4, hO⟩ := hp
    rw [eb_]
    have h_x0 := h_x0.off hO (fun z => by rcases z with z | z <;> first | exact ne_h_x0_had2 z | exact ne_h_x0_had4 z)
    have h_x0r0 := h_x0r0.off hO (fun z => by rcases z with z | z <;> first | exact ne_h_x0r0_had2 z | exact ne_h_x0r0_had4 z)
    have h_x0r1 := h_x0r1.off hO (fun z => by rcases z with z | z <;> first | exact ne_h_x0r1_had2 z | exact ne_h_x0r1_had4 z)
    have h_x0r2 := h_x0r2.off hO (fun z => by rcases z with z | z <;> first | exact ne_h_x0r2_had2 z | exact ne_h_x0r2_had4 z)
    have hF := hF.fresh hO (fun a ha z => by
      rcases z with z | z
      · exact absurd (z ▸ ha) (Nat.not_lt.mpr gad2)
      · exact absurd (z ▸ ha) (Nat.not_lt.mpr gad4))
    obtain ⟨o18, eo18, h⟩ := bind_step h
    refine r_cr (r_runV (rest := []) (As := []) hC 0 (m_J22_toString ad2 ad4  o3.1 o16.2 o16.1 o18 eo18) q1032 q700 q701 q64 q702 (OA.recv hS had2.OA (C := RJ22) rfl) hd_J22_toString rfl ⟨Nat.le_of_ble_eq_true rfl, Nat.le_of_ble_eq_true rfl⟩ hS ⟨had2, had4, lo3_1⟩ hl.1 rfl (Nat.le_of_ble_eq_true rfl) dX1_angleText_51 ⟨Nat.le_of_ble_eq_true rfl, Nat.le_of_ble_eq_true rfl⟩) hS (fun ad19 H locs hp hS hz => ?_)
    obtain ⟨ad20, had19, had20, lo18_1, frad20, frad19, ne_ad19_ad20, hO⟩ := hp
    have ne_h_x0_had19 : x0 ≠ ad19 := Nat.ne_of_lt (Nat.lt_of_lt_of_le h_x0.lt frad19)
    have ne_h_x0r0_had19 : x0r0 ≠ ad19 := Nat.ne_of_lt (Nat.lt_of_lt_of_le h_x0r0.lt frad19)
    have ne_h_x0r1_had19 : x0r1 ≠ ad19 := Nat.ne_of_lt (Nat.lt_of_lt_of_le h_x0r1.lt frad19)
    have ne_h_x0r2_had19 : x0r2 ≠ ad19 := Nat.ne_of_lt (Nat.lt_of_lt_of_le h_x0r2.lt frad19)
    have ne_had2_had19 : ad2 ≠ ad19 := Nat.ne_of_lt (Nat.lt_of_lt_of_le had2.lt frad19)
    have ne_had4_had19 : ad4 ≠ ad19 := Nat.ne_of_lt (Nat.lt_of_lt_of_le had4.lt frad19)
    have gad19 : s.heap.size ≤ ad19 := Nat.le_trans hF.1 frad19
    have hB_had19 : dB D ≤ ad19 := by have := hS0.1.2.2.1; omega
    have ne_h_x0_had20 : x0 ≠ ad20 := Nat.ne_of_lt (Nat.lt_of_lt_of_le h_x0.lt frad20)
    have ne_h_x0r0_had20 : x0r0 ≠ ad20 := Nat.ne_of_lt (Nat.lt_of_lt_of_le h_x0r0.lt frad20)
    have ne_h_x0r1_had20 : x0r1 ≠ ad20 := Nat.ne_of_lt (Nat.lt_of_lt_of_le h_x0r1.lt frad20)
    have ne_h_x0r2_had20 : x0r2 ≠ ad20 := Nat.ne_of_lt (Nat.lt_of_lt_of_le h_x0r2.lt frad20)
    have ne_had2_had20 : ad2 ≠ ad20 := Nat.ne_of_lt (Nat.lt_of_lt_of_le had2.lt frad20)
    have ne_had4_had20 : ad4 ≠ ad20 := Nat.ne_of_lt (Nat.lt_of_lt_of_le had4.lt frad20)
    have gad20 : s.heap.size ≤ ad20 := Nat.le_trans hF.1 frad20
    have hB_had20 : dB D ≤ ad20 := by have := hS0.1.2.2.1; omega
    have h_x0 := h_x0.ext hO
    have h_x0r0 := h_x0r0.ext hO
    have h_x0r1 := h_x0r1.ext hO
    have h_x0r2 := h_x0r2.ext hO
    have had2 := had2.ext hO
    have had4 := had4.ext hO
    have hF := hF.trans (hO.mono (fun _ _ z => z.elim))
    obtain rfl := Option.some.inj h
    rw [eQ]
    exact r_aret hx hb hr (Or.inl ⟨_, rfl⟩) hlk hS (Nat.le_of_ble_eq_true rfl) (Nat.le_of_ble_eq_true rfl) dX1_angleText_54 ⟨_, rfl, ad20, had19, had20, lo18_1, gad20, gad19, ne_ad19_ad20, hF⟩
  obtain ⟨o21, eo21, h⟩ := bind_step h
  have ltp_had2 := had2.lt
  refine r_cr (r_runV (rest := []) (As := [.long o15]) hC 1 (m_J22_append_4_B ad2 ad4  o3.1 o13.2 o13.1 o15 o21 eo21) q1005 q1006 q1007 q64 q1008 (OA.recv hS had2.OA (C := RJ22) rfl) hd_J22_append_4_B rfl ⟨Nat.le_of_ble_eq_true rfl, Nat.le_of_ble_eq_true rfl⟩ hS ⟨had2, hB_had2, had4, lo3_1, ne_had2_had4⟩ hl.1 rfl (Nat.le_of_ble_eq_true rfl) dX1_angleText_48 ⟨Nat.le_of_ble_eq_true rfl, Nat.le_of_ble_eq_true rfl⟩) hS (fun b H locs hp hS hz => ?_)
  obtain ⟨eb_, ad23, had2, had23, lo21_2_1, frad23, hO⟩ := hp
  rw [eb_]
  have ne_h_x0_had23 : x0 ≠ ad23 := Nat.ne_of_lt (Nat.lt_of_lt_of_le h_x0.lt frad23)
  have ne_h_x0r0_had23 : x0r0 ≠ ad23 := Nat.ne_of_lt (Nat.lt_of_lt_of_le h_x0r0.lt frad23)
  have ne_h_x0r1_had23 : x0r1 ≠ ad23 := Nat.ne_of_lt (Nat.lt_of_lt_of_le h_x0r1.lt frad23)
  have ne_h_x0r2_had23 : x0r2 ≠ ad23 := Nat.ne_of_lt (Nat.lt_of_lt_of_le h_x0r2.lt frad23)
  have ne_had2_had23 : ad2 ≠ ad23 := Nat.ne_of_lt (Nat.lt_of_lt_of_le ltp_had2 frad23)
  have ne_had4_had23 : ad4 ≠ ad23 := Nat.ne_of_lt (Nat.lt_of_lt_of_le had4.lt frad23)
  have gad23 : s.heap.size ≤ ad23 := Nat.le_trans hF.1 frad23
  have hB_had23 : dB D ≤ ad23 := by have := hS0.1.2.2.1; omega
  have h_x0 := h_x0.off hO ne_h_x0_had2
  have h_x0r0 := h_x0r0.off hO ne_h_x0r0_had2
  have h_x0r1 := h_x0r1.off hO ne_h_x0r1_had2
  have h_x0r2 := h_x0r2.off hO ne_h_x0r2_had2
  have had4 := had4.off hO (Ne.symm ne_had2_had4)
  have hF := hF.fresh hO (fun a ha z => absurd (z ▸ ha) (Nat.not_lt.mpr gad2))
  obtain ⟨o24, eo24, h⟩ := bind_step h
  refine r_cr (r_runV (rest := []) (As := []) hC 0 (m_J22_toString ad2 ad23  o21.2.1 o21.2.2 o21.1 o24 eo24) q1032 q700 q701 q64 q702 (OA.recv hS had2.OA (C := RJ22) rfl) hd_J22_toString rfl ⟨Nat.le_of_ble_eq_true rfl, Nat.le_of_ble_eq_true rfl⟩ hS ⟨had2, had23, lo21_2_1⟩ hl.1 rfl (Nat.le_of_ble_eq_true rfl) dX1_angleText_51 ⟨Nat.le_of_ble_eq_true rfl, Nat.le_of_ble_eq_true rfl⟩) hS (fun ad25 H locs hp hS hz => ?_)
  obtain ⟨ad26, had25, had26, lo24_1, frad26, frad25, ne_ad25_ad26, hO⟩ := hp
  have ne_h_x0_had25 : x0 ≠ ad25 := Nat.ne_of_lt (Nat.lt_of_lt_of_le h_x0.lt frad25)
  have ne_h_x0r0_had25 : x0r0 ≠ ad25 := Nat.ne_of_lt (Nat.lt_of_lt_of_le h_x0r0.lt frad25)
  have ne_h_x0r1_had25 : x0r1 ≠ ad25 := Nat.ne_of_lt (Nat.lt_of_lt_of_le h_x0r1.lt frad25)
  have ne_h_x0r2_had25 : x0r2 ≠ ad25 := Nat.ne_of_lt (Nat.lt_of_lt_of_le h_x0r2.lt frad25)
  have ne_had2_had25 : ad2 ≠ ad25 := Nat.ne_of_lt (Nat.lt_of_lt_of_le had2.lt frad25)
  have ne_had4_had25 : ad4 ≠ ad25 := Nat.ne_of_lt (Nat.lt_of_lt_of_le had4.lt frad25)
  have ne_had23_had25 : ad23 ≠ ad25 := Nat.ne_of_lt (Nat.lt_of_lt_of_le had23.lt frad25)
  have gad25 : s.heap.size ≤ ad25 := Nat.le_trans hF.1 frad25
  have hB_had25 : dB D ≤ ad25 := by have := hS0.1.2.2.1; omega
  have ne_h_x0_had26 : x0 ≠ ad26 := Nat.ne_of_lt (Nat.lt_of_lt_of_le h_x0.lt frad26)
  have ne_h_x0r0_had26 : x0r0 ≠ ad26 := Nat.ne_of_lt (Nat.lt_of_lt_of_le h_x0r0.lt frad26)
  have ne_h_x0r1_had26 : x0r1 ≠ ad26 := Nat.ne_of_lt (Nat.lt_of_lt_of_le h_x0r1.lt frad26)
  have ne_h_x0r2_had26 : x0r2 ≠ ad26 := Nat.ne_of_lt (Nat.lt_of_lt_of_le h_x0r2.lt frad26)
  have ne_had2_had26 : ad2 ≠ ad26 := Nat.ne_of_lt (Nat.lt_of_lt_of_le had2.lt frad26)
  have ne_had4_had26 : ad4 ≠ ad26 := Nat.ne_of_lt (Nat.lt_of_lt_of_le had4.lt frad26)
  have ne_had23_had26 : ad23 ≠ ad26 := Nat.ne_of_lt (Nat.lt_of_lt_of_le had23.lt frad26)
  have gad26 : s.heap.size ≤ ad26 := Nat.le_trans hF.1 frad26
  have hB_had26 : dB D ≤ ad26 := by have := hS0.1.2.2.1; omega
  have h_x0 := h_x0.ext hO
  have h_x0r0 := h_x0r0.ext hO
  have h_x0r1 := h_x0r1.ext hO
  have h_x0r2 := h_x0r2.ext hO
  have had2 := had2.ext hO
  have had4 := had4.ext hO
  have had23 := had23.ext hO
  have hF := hF.trans (hO.mono (fun _ _ z => z.elim))
  obtain rfl := Option.some.inj h
  rw [eQ]
  exact r_aret hx hb hr (Or.inl ⟨_, rfl⟩) hlk hS (Nat.le_of_ble_eq_true rfl) (Nat.le_of_ble_eq_true rfl) dX1_angleText_54 ⟨_, rfl, ad26, had25, had26, lo24_1, gad26, gad25, ne_ad25_ad26, hF⟩

abbrev R_X1_angleFind : Room := { frames := 5, cells := 0, slots := 0, locals := 112 }
noncomputable def f_X1_angleFind (x0r0c : Nat → UInt64) (x0r1c : Nat → UInt64) (x0r2c : Nat → Int32) (x0f3 : Int32) (x0f4 : Int32) (x0f5 : Int32) (x0f6 : Int32) (x1 : Int32) (x2 : Bool) : Option (Int32) :=
  Option.bind (f_X1_angleAt x0r0c x0r1c x0r2c x0f3 x0f4 x0f5 x0f6 x1) fun o1 =>
  Option.bind (f_X1_find x0r0c o1 x2) fun o2 =>
  some o2
theorem hd_X1_angleFind : Hd yX1_angleFind 2 := by unfold Hd; decide +kernel
set_option maxHeartbeats 4000000 in
set_option maxRecDepth 100000 in
theorem m_X1_angleFind {l : Launch} {D : DD} (x0 : Nat) (x0r0 : Nat) (x0r1 : Nat) (x0r2 : Nat)  (x0r0c : Nat → UInt64) (x0r1c : Nat → UInt64) (x0r2c : Nat → Int32) (x0f3 : Int32) (x0f4 : Int32) (x0f5 : Int32) (x0f6 : Int32) (x1 : Int32) (x2 : Bool) (r : Int32) (h : f_X1_angleFind x0r0c x0r1c x0r2c x0f3 x0f4 x0f5 x0f6 x1 x2 = some r) : MP l D yX1_angleFind cX1_angleFind 3 (some .int) 5 112 [.ref x0, .int x1, .int (bI x2)] (fun H => ON D 0 x0 [.ref x0r0, .ref x0r1, .ref x0r2, .int x0f3, .int x0f4, .int x0f5, .int x0f6] H ∧ aD D x0r0 8 x0r0c H ∧ aD D x0r1 8 x0r1c H ∧ aZ D x0r2 8 x0r2c H) (some (.int r)) := by
  refine MP.start (by decide +kernel) (Nat.le_of_ble_eq_true rfl) ?_
  intro p e s m below meth c ls hC hS hp hl
  obtain ⟨h_x0, h_x0r0, h_x0r1, h_x0r2⟩ := hp
  obtain ⟨hx, hb, hr, hlk, hml, hown, hts, hnm⟩ := id hC
  have hl : lv_has ls 3 [(0, .ref x0), (1, .int x1), (2, .int (bI x2))] := hl
  unfold f_X1_angleFind at h
  have hS0 := hS
  obtain ⟨A, eA⟩ : ∃ A : Array Value, A = [.ref x0, .int x1, .int (bI x2)].toArray := ⟨_, rfl⟩
  rw [← eA] at hC hts ⊢
  obtain ⟨Q, eQ⟩ : ∃ Q : State → Prop, Q = MQ below (PQ (some (.int r))) A s 0 0 (fun _ => False) := ⟨_, rfl⟩
  show W p l e R_X1_angleFind s m A below meth c s.heap [] 0 0 _ _
  rw [← eQ]
  refine lv_aload_n hx hb dX1_angleFind_0 rfl (lv_at hl 0 rfl) ?_
  refine r_get hx hb hts hown hS h_x0.OA rfl in_X1 0 (by decide) q914 rfl (v := .ref x0r0) rfl dX1_angleFind_1 ?_
  refine lv_aload_n hx hb dX1_angleFind_4 rfl (lv_at hl 0 rfl) ?_
  refine lv_iload_n hx hb dX1_angleFind_5 rfl (lv_at hl 1 rfl) ?_
  obtain ⟨o1, eo1, h⟩ := bind_step h
  refine r_cp (r_runV (rest := [.ref x0r0]) (As := [.int x1]) hC 1 (m_X1_angleAt x0 x0r0 x0r1 x0r2  x0r0c x0r1c x0r2c x0f3 x0f4 x0f5 x0f6 x1 o1 eo1) q952 q954 qs11 q46 q955 (OA.recv hS h_x0.OA (C := RX1) rfl) hd_X1_angleAt rfl ⟨Nat.le_of_ble_eq_true rfl, Nat.le_of_ble_eq_true rfl⟩ hS ⟨h_x0, h_x0r0, h_x0r1, h_x0r2⟩ hl.1 rfl (Nat.le_of_ble_eq_true rfl) dX1_angleFind_6 ⟨Nat.le_of_ble_eq_true rfl, Nat.le_of_ble_eq_true rfl⟩) ?_
  refine lv_iload_n hx hb dX1_angleFind_9 rfl (lv_at hl 2 rfl) ?_
  obtain ⟨o2, eo2, h⟩ := bind_step h
  refine r_cp (r_runS (rest := []) (As := [.ref x0r0, .double o1, .int (bI x2)]) hC 3 (m_X1_find x0r0  x0r0c o1 x2 o2 eo2) q1270 q1271 q46 q1272 hd_X1_find rfl ⟨Nat.le_of_ble_eq_true rfl, Nat.le_of_ble_eq_true rfl⟩ hS h_x0r0 hl.1 rfl (Nat.le_of_ble_eq_true rfl) dX1_angleFind_10 ⟨Nat.le_of_ble_eq_true rfl, Nat.le_of_ble_eq_true rfl⟩) ?_
  obtain rfl := Option.some.inj h
  rw [eQ]
  exact p_iret hx hb hr hlk dX1_angleFind_13 rfl

abbrev R_X1_isSound : Room := { frames := 11, cells := 166, slots := 2327, locals := 1459 }
noncomputable def f_X1_isSound (x0r0c : Nat → UInt64) (x0r1c : Nat → UInt64) (x0r2c : Nat → Int32) (x0f3 : Int32) (x0f4 : Int32) (x0f5 : Int32) (x0f6 : Int32) : Option (Bool) :=
  Option.bind (f_X1_areOrdered x0r0c x0r1c x0r2c x0f3 x0f4 x0f5 x0f6) fun o1 =>
  lt (fun (v2 : Bool) =>
  lt (fun (v4 : Bool) (v5 : Int32) =>
  (show Option (Sum (Bool × Int32) (Bool)) from (
  (if 8 ≤ v5 then
    some (.inr v4)
  else
    gd 8 v5 fun i18 =>
    lti (x0r2c i18) fun v19 =>
    ask (narZb v19) <|
    lt (v19 == 1) fun v21 =>
    lt (v4 && v21) fun v22 =>
    lti (v5 + 1) fun v23 =>
    some (.inl (v22, v23))
  )
  ))
  ) fun F14 =>
  Option.bind (lp 9 (fun x => F14 x.1 x.2) (v2, 0)) fun w15 =>
  some w15
  ) fun K3 =>
  lt (fun (_u : Unit) =>
  K3 false
  ) fun K24 =>
  (if o1 = true then
    Option.bind (f_X1_areParted x0r0c x0r1c x0r2c x0f3 x0f4 x0f5 x0f6 0) fun o26 =>
    (if o26 = true then
      Option.bind (f_X1_areParted x0r0c x0r1c x0r2c x0f3 x0f4 x0f5 x0f6 1) fun o28 =>
      (if o28 = true then
        Option.bind (f_X1_areParted x0r0c x0r1c x0r2c x0f3 x0f4 x0f5 x0f6 2) fun o30 =>
        (if o30 = true then
          K3 true
        else
          K24 ()
        )
      else
        K24 ()
      )
    else
      K24 ()
    )
  else
    K24 ()
  )
theorem hd_X1_isSound : Hd yX1_isSound 0 := by unfold Hd; decide +kernel
set_option maxHeartbeats 4000000 in
set_option maxRecDepth 100000 in
theorem m_X1_isSound {l : Launch} {D : DD} (x0 : Nat) (x0r0 : Nat) (x0r1 : Nat) (x0r2 : Nat)  (x0r0c : Nat → UInt64) (x0r1c : Nat → UInt64) (x0r2c : Nat → Int32) (x0f3 : Int32) (x0f4 : Int32) (x0f5 : Int32) (x0f6 : Int32) (r : Bool) (h : f_X1_isSound x0r0c x0r1c x0r2c x0f3 x0f4 x0f5 x0f6 = some r) : MT l D yX1_isSound cX1_isSound 3 (some .boolean) 11 1459 166 2327 [.ref x0] (fun H => ON D 0 x0 [.ref x0r0, .ref x0r1, .ref x0r2, .int x0f3, .int x0f4, .int x0f5, .int x0f6] H ∧ aD D x0r0 8 x0r0c H ∧ aD D x0r1 8 x0r1c H ∧ aZ D x0r2 8 x0r2c H) (pZ (fun H b H' => b = r ∧ Off (fun _ => False) H H')) := by
  refine MT.start (by decide +kernel) (Nat.le_of_ble_eq_true rfl) ?_
  intro p e s m below meth c ls hC hS hp hl
  obtain ⟨h_x0, h_x0r0, h_x0r1, h_x0r2⟩ := hp
  obtain ⟨hx, hb, hr, hlk, hml, hown, hts, hnm⟩ := id hC
  have hl : lv_has ls 3 [(0, .ref x0)] := hl
  unfold f_X1_isSound at h
  have hS0 := hS
  obtain ⟨A, eA⟩ : ∃ A : Array Value, A = [.ref x0].toArray := ⟨_, rfl⟩
  rw [← eA] at hC hts ⊢
  obtain ⟨Q, eQ⟩ : ∃ Q : State → Prop, Q = MQ below (TQ D (pZ (fun H b H' => b = r ∧ Off (fun _ => False) H H'))) A s 166 2327 (fun q => dB D ≤ q) := ⟨_, rfl⟩
  have hF : Off (fun _ => False) s.heap s.heap := Off.rf
  show W p l e R_X1_isSound s m A below meth c s.heap [] 0 0 _ _
  rw [← eQ]
  obtain ⟨H, eH⟩ : ∃ H : Heap, H = s.heap := ⟨_, rfl⟩
  obtain ⟨locs, eLc⟩ : ∃ L : List Loc, L = [] := ⟨_, rfl⟩
  have lt_h_x0 := h_x0.lt
  have lt_h_x0r0 := h_x0r0.lt
  have lt_h_x0r1 := h_x0r1.lt
  have lt_h_x0r2 := h_x0r2.lt
  rw [← eH, ← eLc]
  have hF : Off (fun _ => False) s.heap H := by rw [eH]; exact hF
  rw [← eH] at h_x0
  rw [← eH] at h_x0r0
  rw [← eH] at h_x0r1
  rw [← eH] at h_x0r2
  have hS : St D s H locs := by rw [eH, eLc]; exact hS
  refine lv_aload_n hx hb dX1_isSound_0 rfl (lv_at hl 0 rfl) ?_
  obtain ⟨o1, eo1, h⟩ := bind_step h
  refine r_cz (r_runV (rest := []) (As := []) hC 0 (m_X1_areOrdered x0 x0r0 x0r1 x0r2  x0r0c x0r1c x0r2c x0f3 x0f4 x0f5 x0f6 o1 eo1) q1328 q1330 qs18 q46 q1331 (OA.recv hS h_x0.OA (C := RX1) rfl) hd_X1_areOrdered rfl ⟨Nat.le_of_ble_eq_true rfl, Nat.le_of_ble_eq_true rfl⟩ hS ⟨h_x0, h_x0r0, h_x0r1, h_x0r2⟩ hl.1 rfl (Nat.le_of_ble_eq_true rfl) dX1_isSound_1 ⟨Nat.le_of_ble_eq_true rfl, Nat.le_of_ble_eq_true rfl⟩) hS (fun b H locs hp hS hz => ?_)
  obtain ⟨eb_, hO⟩ := hp
  rw [eb_]
  have h_x0 := h_x0.ext hO
  have h_x0r0 := h_x0r0.ext hO
  have h_x0r1 := h_x0r1.ext hO
  have h_x0r2 := h_x0r2.ext hO
  have hF := hF.trans (hO.mono (fun _ _ z => z.elim))
  obtain ⟨K3, eK3, h⟩ := lt_step h
  have HK3 : ∀ (v2 : Bool) (h : K3 v2 = some r) (H : Heap) (locs : List Loc) (hS : St D s H locs) (hF : Off (fun _ => False) s.heap H) (h_x0 : ON D 0 x0 [.ref x0r0, .ref x0r1, .ref x0r2, .int x0f3, .int x0f4, .int x0f5, .int x0f6] H) (h_x0r0 : aD D x0r0 8 x0r0c H) (h_x0r1 : aD D x0r1 8 x0r1c H) (h_x0r2 : aZ D x0r2 8 x0r2c H) (ls : Array Slot) (hl : lv_has ls 3 [(0, .ref x0)]), W p l e R_X1_isSound s m A below meth c H locs 166 2327 Q (F0 m 36 ls [.int (bI v2)]) := by
    intro v2 h H locs hS hF h_x0 h_x0r0 h_x0r1 h_x0r2 ls hl
    subst eK3
    refine lv_istore_n (lv' := [(1, .int (bI v2)), (0, .ref x0)]) hx hb dX1_isSound_36 rfl hl (by decide) rfl (fun ls hl => ?_)
    refine lv_iconst (v := 0) hx hb dX1_isSound_37 (by decide) ?_
    refine lv_istore_n (lv' := [(2, .int 0), (1, .int (bI v2)), (0, .ref x0)]) hx hb dX1_isSound_38 rfl hl (by decide) rfl (fun ls hl => ?_)
    obtain ⟨F14, eF14, h⟩ := lt_step h
    obtain ⟨w15, ew15, h⟩ := bind_step h
    have HL : ∀ (n : Nat) (v4 : Bool) (v5 : Int32) (w15 : Bool) (hk0 : lp n (fun x => F14 x.1 x.2) (v4, v5) = some w15)  (H : Heap) (locs : List Loc) (hS : St D s H locs) (hF : Off (fun _ => False) s.heap H) (h_x0 : ON D 0 x0 [.ref x0r0, .ref x0r1, .ref x0r2, .int x0f3, .int x0f4, .int x0f5, .int x0f6] H) (h_x0r0 : aD D x0r0 8 x0r0c H) (h_x0r1 : aD D x0r1 8 x0r1c H) (h_x0r2 : aZ D x0r2 8 x0r2c H) (ls : Array Slot) (hl : lv_has ls 3 [(0, .ref x0), (1, .int (bI v4)), (2, .int v5)]) (K60 : ∀ (H : Heap) (locs : List Loc) (hS : St D s H locs) (hF : Off (fun _ => False) s.heap H) (h_x0 : ON D 0 x0 [.ref x0r0, .ref x0r1, .ref x0r2, .int x0f3, .int x0f4, .int x0f5, .int x0f6] H) (h_x0r0 : aD D x0r0 8 x0r0c H) (h_x0r1 : aD D x0r1 8 x0r1c H) (h_x0r2 : aZ D x0r2 8 x0r2c H) (ls : Array Slot) (hl : lv_has ls 3 [(1, .int (bI w15))]), W p l e R_X1_isSound s m A below meth c H locs 166 2327 Q (F0 m 60 ls [])), W p l e R_X1_isSound s m A below meth c H locs 166 2327 Q (F0 m 39 ls []) := by
      intro n
      induction n with
      | zero => intro v4 v5 w15 hk0  H locs hS hF h_x0 h_x0r0 h_x0r1 h_x0r2 ls hl K60; exact lp_zero hk0
      | succ n ih =>
        intro v4 v5 w15 hk0  H locs hS hF h_x0 h_x0r0 h_x0r1 h_x0r2 ls hl K60
        obtain ⟨z16, hz, hk⟩ := lp_step hk0
        have h := (congrFun (congrFun (eF14) v4) v5).symm.trans hz
        refine lv_iload_n hx hb dX1_isSound_39 rfl (lv_at hl 2 rfl) ?_
        refine lv_bipush (v := 8) hx hb dX1_isSound_40 (by decide) ?_
        refine lv_icmp_ge (tgt := 60) hx hb dX1_isSound_42 (by decide) (fun c17 => ?_) (fun c17 => ?_)
        · have h := it_pos h c17
          obtain rfl := Option.some.inj h
          obtain rfl := id hk
          exact K60 H locs hS hF h_x0 h_x0r0 h_x0r1 h_x0r2 ls (lv_sub hl [1] rfl)
        · have h := it_neg h c17
          refine lv_iload_n hx hb dX1_isSound_45 rfl (lv_at hl 1 rfl) ?_
          refine lv_aload_n hx hb dX1_isSound_46 rfl (lv_at hl 0 rfl) ?_
          refine r_get hx hb hts hown hS h_x0.OA rfl in_X1 2 (by decide) q916 rfl (v := .ref x0r2) rfl dX1_isSound_47 ?_
          refine lv_iload_n hx hb dX1_isSound_50 rfl (lv_at hl 2 rfl) ?_
          obtain ⟨i18, xi18, h⟩ := gd_step (by decide) h
          refine r_zald hx hb hS h_x0r2 i18 xi18 dX1_isSound_51 ?_
          obtain ⟨v19, ev19, h⟩ := lti_step h
          refine r_nmI ev19 ?_
          obtain ⟨b20, h⟩ := ask_step h
          obtain ⟨v21, ev21, h⟩ := lt_step h
          rw [narZe b20 ev21]
          obtain ⟨v22, ev22, h⟩ := lt_step h
          refine r_iandB hx hb ev22 dX1_isSound_52 ?_
          refine lv_istore_n (lv' := [(1, .int (bI v22)), (0, .ref x0), (2, .int v5)]) hx hb dX1_isSound_53 rfl hl (by decide) rfl (fun ls hl => ?_)
          obtain ⟨v23, ev23, h⟩ := lti_step h
          refine lv_iinc (v := v23) (lv' := [(2, .int v23), (1, .int (bI v22)), (0, .ref x0)]) hx hb dX1_isSound_54 hl (k := 2) rfl (by rw [ev23]; rfl) (by decide) rfl (fun ls hl => ?_)
          refine lv_goto (tgt := 39) hx hb dX1_isSound_57 (by decide) ?_
          obtain rfl := Option.some.inj h
          exact ih v22 v23 w15 hk  H locs hS hF h_x0 h_x0r0 h_x0r1 h_x0r2 ls (lv_sub hl [2, 1, 0] rfl) K60
    clear eF14
    refine HL 9 v2 0 w15 ew15  H locs hS hF h_x0 h_x0r0 h_x0r1 h_x0r2 ls (lv_sub hl [2, 1, 0] rfl) (fun  H locs hS hF h_x0 h_x0r0 h_x0r1 h_x0r2 ls hl => ?_)
    refine lv_iload_n hx hb dX1_isSound_60 rfl (lv_at hl 0 rfl) ?_
    obtain rfl := Option.some.inj h
    rw [eQ]
    exact r_zret hx hb hr hlk hS (narB _) (Nat.le_of_ble_eq_true rfl) (Nat.le_of_ble_eq_true rfl) dX1_isSound_61 ⟨_, rfl, rfl, hF⟩
  clear eK3
  obtain ⟨K24, eK24, h⟩ := lt_step h
  have HK24 : ∀  (h : K24 () = some r) (H : Heap) (locs : List Loc) (hS : St D s H locs) (hF : Off (fun _ => False) s.heap H) (h_x0 : ON D 0 x0 [.ref x0r0, .ref x0r1, .ref x0r2, .int x0f3, .int x0f4, .int x0f5, .int x0f6] H) (h_x0r0 : aD D x0r0 8 x0r0c H) (h_x0r1 : aD D x0r1 8 x0r1c H) (h_x0r2 : aZ D x0r2 8 x0r2c H) (ls : Array Slot) (hl : lv_has ls 3 [(0, .ref x0)]), W p l e R_X1_isSound s m A below meth c H locs 166 2327 Q (F0 m 35 ls []) := by
    intro h H locs hS hF h_x0 h_x0r0 h_x0r1 h_x0r2 ls hl
    subst eK24
    refine lv_iconst (v := 0) hx hb dX1_isSound_35 (by decide) ?_
    exact HK3 false h H locs hS hF h_x0 h_x0r0 h_x0r1 h_x0r2 ls (lv_sub hl [0] rfl)
  clear eK24
  refine r_ifz_eq (tgt := 35) hx hb dX1_isSound_4 (by decide) (fun c25 => ?_) (fun c25 => ?_)
  · have h := it_neg h (by rw [c25]; decide)
    refine W.widen (k := 166) (n := 2327) (Nat.le_of_ble_eq_true rfl) (Nat.le_of_ble_eq_true rfl) ?_
    exact HK24  h H locs hS hF h_x0 h_x0r0 h_x0r1 h_x0r2 ls (lv_sub hl [0] rfl)
  · have h := it_pos h (by rw [c25])
    refine lv_aload_n hx hb dX1_isSound_7 rfl (lv_at hl 0 rfl) ?_
    refine lv_iconst (v := 0) hx hb dX1_isSound_8 (by decide) ?_
    obtain ⟨o26, eo26, h⟩ := bind_step h
    refine r_cz (r_runV (rest := []) (As := [.int 0]) hC 1 (m_X1_areParted x0 x0r0 x0r1 x0r2  x0r0c x0r1c x0r2c x0f3 x0f4 x0f5 x0f6 0 o26 eo26) q1332 q1334 qs19 q46 q1335 (OA.recv hS h_x0.OA (C := RX1) rfl) hd_X1_areParted rfl ⟨Nat.le_of_ble_eq_true rfl, Nat.le_of_ble_eq_true rfl⟩ hS ⟨h_x0, h_x0r0, h_x0r1, h_x0r2⟩ hl.1 rfl (Nat.le_of_ble_eq_true rfl) dX1_isSound_9 ⟨Nat.le_of_ble_eq_true rfl, Nat.le_of_ble_eq_true rfl⟩) hS (fun b H locs hp hS hz => ?_)
    obtain ⟨eb_, hO⟩ := hp
    rw [eb_]
    have h_x0 := h_x0.ext hO
    have h_x0r0 := h_x0r0.ext hO
    have h_x0r1 := h_x0r1.ext hO
    have h_x0r2 := h_x0r2.ext hO
    have hF := hF.trans (hO.mono (fun _ _ z => z.elim))
    refine r_ifz_eq (tgt := 35) hx hb dX1_isSound_12 (by decide) (fun c27 => ?_) (fun c27 => ?_)
    · have h := it_neg h (by rw [c27]; decide)
      refine W.widen (k := 166) (n := 2327) (Nat.le_of_ble_eq_true rfl) (Nat.le_of_ble_eq_true rfl) ?_
      exact HK24  h H locs hS hF h_x0 h_x0r0 h_x0r1 h_x0r2 ls (lv_sub hl [0] rfl)
    · have h := it_pos h (by rw [c27])
      refine lv_aload_n hx hb dX1_isSound_15 rfl (lv_at hl 0 rfl) ?_
      refine lv_iconst (v := 1) hx hb dX1_isSound_16 (by decide) ?_
      obtain ⟨o28, eo28, h⟩ := bind_step h
      refine r_cz (r_runV (rest := []) (As := [.int 1]) hC 1 (m_X1_areParted x0 x0r0 x0r1 x0r2  x0r0c x0r1c x0r2c x0f3 x0f4 x0f5 x0f6 1 o28 eo28) q1332 q1334 qs19 q46 q1335 (OA.recv hS h_x0.OA (C := RX1) rfl) hd_X1_areParted rfl ⟨Nat.le_of_ble_eq_true rfl, Nat.le_of_ble_eq_true rfl⟩ hS ⟨h_x0, h_x0r0, h_x0r1, h_x0r2⟩ hl.1 rfl (Nat.le_of_ble_eq_true rfl) dX1_isSound_17 ⟨Nat.le_of_ble_eq_true rfl, Nat.le_of_ble_eq_true rfl⟩) hS (fun b H locs hp hS hz => ?_)
      obtain ⟨eb_, hO⟩ := hp
      rw [eb_]
      have h_x0 := h_x0.ext hO
      have h_x0r0 := h_x0r0.ext hO
      have h_x0r1 := h_x0r1.ext hO
      have h_x0r2 := h_x0r2.ext hO
      have hF := hF.trans (hO.mono (fun _ _ z => z.elim))
      refine r_ifz_eq (tgt := 35) hx hb dX1_isSound_20 (by decide) (fun c29 => ?_) (fun c29 => ?_)
      · have h := it_neg h (by rw [c29]; decide)
        refine W.widen (k := 166) (n := 2327) (Nat.le_of_ble_eq_true rfl) (Nat.le_of_ble_eq_true rfl) ?_
        exact HK24  h H locs hS hF h_x0 h_x0r0 h_x0r1 h_x0r2 ls (lv_sub hl [0] rfl)
      · have h := it_pos h (by rw [c29])
        refine lv_aload_n hx hb dX1_isSound_23 rfl (lv_at hl 0 rfl) ?_
        refine lv_iconst (v := 2) hx hb dX1_isSound_24 (by decide) ?_
        obtain ⟨o30, eo30, h⟩ := bind_step h
        refine r_cz (r_runV (rest := []) (As := [.int 2]) hC 1 (m_X1_areParted x0 x0r0 x0r1 x0r2  x0r0c x0r1c x0r2c x0f3 x0f4 x0f5 x0f6 2 o30 eo30) q1332 q1334 qs19 q46 q1335 (OA.recv hS h_x0.OA (C := RX1) rfl) hd_X1_areParted rfl ⟨Nat.le_of_ble_eq_true rfl, Nat.le_of_ble_eq_true rfl⟩ hS ⟨h_x0, h_x0r0, h_x0r1, h_x0r2⟩ hl.1 rfl (Nat.le_of_ble_eq_true rfl) dX1_isSound_25 ⟨Nat.le_of_ble_eq_true rfl, Nat.le_of_ble_eq_true rfl⟩) hS (fun b H locs hp hS hz => ?_)
        obtain ⟨eb_, hO⟩ := hp
        rw [eb_]
        have h_x0 := h_x0.ext hO
        have h_x0r0 := h_x0r0.ext hO
        have h_x0r1 := h_x0r1.ext hO
        have h_x0r2 := h_x0r2.ext hO
        have hF := hF.trans (hO.mono (fun _ _ z => z.elim))
        refine r_ifz_eq (tgt := 35) hx hb dX1_isSound_28 (by decide) (fun c31 => ?_) (fun c31 => ?_)
        · have h := it_neg h (by rw [c31]; decide)
          exact HK24  h H locs hS hF h_x0 h_x0r0 h_x0r1 h_x0r2 ls (lv_sub hl [0] rfl)
        · have h := it_pos h (by rw [c31])
          refine lv_iconst (v := 1) hx hb dX1_isSound_31 (by decide) ?_
          refine lv_goto (tgt := 36) hx hb dX1_isSound_32 (by decide) ?_
          exact HK3 true h H locs hS hF h_x0 h_x0r0 h_x0r1 h_x0r2 ls (lv_sub hl [0] rfl)

abbrev R_X1_angleEighths : Room := { frames := 5, cells := 0, slots := 0, locals := 112 }
noncomputable def f_X1_angleEighths (x0r0c : Nat → UInt64) (x0r1c : Nat → UInt64) (x0r2c : Nat → Int32) (x0f3 : Int32) (x0f4 : Int32) (x0f5 : Int32) (x0f6 : Int32) (x1 : Int32) : Option (Int32) :=
  Option.bind (f_X1_angleAt x0r0c x0r1c x0r2c x0f3 x0f4 x0f5 x0f6 x1) fun o1 =>
  Option.bind (f_X1_eighthsOf o1) fun o2 =>
  some o2
theorem hd_X1_angleEighths : Hd yX1_angleEighths 1 := by unfold Hd; decide +kernel
set_option maxHeartbeats 4000000 in
set_option maxRecDepth 100000 in
theorem m_X1_angleEighths {l : Launch} {D : DD} (x0 : Nat) (x0r0 : Nat) (x0r1 : Nat) (x0r2 : Nat)  (x0r0c : Nat → UInt64) (x0r1c : Nat → UInt64) (x0r2c : Nat → Int32) (x0f3 : Int32) (x0f4 : Int32) (x0f5 : Int32) (x0f6 : Int32) (x1 : Int32) (r : Int32) (h : f_X1_angleEighths x0r0c x0r1c x0r2c x0f3 x0f4 x0f5 x0f6 x1 = some r) : MP l D yX1_angleEighths cX1_angleEighths 2 (some .int) 5 112 [.ref x0, .int x1] (fun H => ON D 0 x0 [.ref x0r0, .ref x0r1, .ref x0r2, .int x0f3, .int x0f4, .int x0f5, .int x0f6] H ∧ aD D x0r0 8 x0r0c H ∧ aD D x0r1 8 x0r1c H ∧ aZ D x0r2 8 x0r2c H) (some (.int r)) := by
  refine MP.start (by decide +kernel) (Nat.le_of_ble_eq_true rfl) ?_
  intro p e s m below meth c ls hC hS hp hl
  obtain ⟨h_x0, h_x0r0, h_x0r1, h_x0r2⟩ := hp
  obtain ⟨hx, hb, hr, hlk, hml, hown, hts, hnm⟩ := id hC
  have hl : lv_has ls 2 [(0, .ref x0), (1, .int x1)] := hl
  unfold f_X1_angleEighths at h
  have hS0 := hS
  obtain ⟨A, eA⟩ : ∃ A : Array Value, A = [.ref x0, .int x1].toArray := ⟨_, rfl⟩
  rw [← eA] at hC hts ⊢
  obtain ⟨Q, eQ⟩ : ∃ Q : State → Prop, Q = MQ below (PQ (some (.int r))) A s 0 0 (fun _ => False) := ⟨_, rfl⟩
  show W p l e R_X1_angleEighths s m A below meth c s.heap [] 0 0 _ _
  rw [← eQ]
  refine lv_aload_n hx hb dX1_angleEighths_0 rfl (lv_at hl 0 rfl) ?_
  refine lv_iload_n hx hb dX1_angleEighths_1 rfl (lv_at hl 1 rfl) ?_
  obtain ⟨o1, eo1, h⟩ := bind_step h
  refine r_cp (r_runV (rest := []) (As := [.int x1]) hC 1 (m_X1_angleAt x0 x0r0 x0r1 x0r2  x0r0c x0r1c x0r2c x0f3 x0f4 x0f5 x0f6 x1 o1 eo1) q952 q954 qs11 q46 q955 (OA.recv hS h_x0.OA (C := RX1) rfl) hd_X1_angleAt rfl ⟨Nat.le_of_ble_eq_true rfl, Nat.le_of_ble_eq_true rfl⟩ hS ⟨h_x0, h_x0r0, h_x0r1, h_x0r2⟩ hl.1 rfl (Nat.le_of_ble_eq_true rfl) dX1_angleEighths_2 ⟨Nat.le_of_ble_eq_true rfl, Nat.le_of_ble_eq_true rfl⟩) ?_
  obtain ⟨o2, eo2, h⟩ := bind_step h
  refine r_cp (r_runS (rest := []) (As := [.double o1]) hC 1 (m_X1_eighthsOf   o1 o2 eo2) q357 q358 q46 q359 hd_X1_eighthsOf rfl ⟨Nat.le_of_ble_eq_true rfl, Nat.le_of_ble_eq_true rfl⟩ hS trivial hl.1 rfl (Nat.le_of_ble_eq_true rfl) dX1_angleEighths_5 ⟨Nat.le_of_ble_eq_true rfl, Nat.le_of_ble_eq_true rfl⟩) ?_
  obtain rfl := Option.some.inj h
  rw [eQ]
  exact p_iret hx hb hr hlk dX1_angleEighths_8 rfl

abbrev R_X1_isSlope : Room := { frames := 9, cells := 41, slots := 425, locals := 1411 }
noncomputable def f_X1_isSlope (x0r0c : Nat → UInt64) (x0r1c : Nat → UInt64) (x0r2c : Nat → Int32) (x0f3 : Int32) (x0f4 : Int32) (x0f5 : Int32) (x0f6 : Int32) (x1 : Int32) : Option (Bool) :=
  Option.bind (f_X1_angleAt x0r0c x0r1c x0r2c x0f3 x0f4 x0f5 x0f6 x1) fun o1 =>
  Option.bind (f_J6_sin o1) fun o2 =>
  Option.bind (f_J6_cos o1) fun o3 =>
  Option.bind (f_J6_tan o1) fun o4 =>
  Option.bind (f_X1_isSlopeBy o2 o3 o4) fun o5 =>
  some o5
theorem hd_X1_isSlope : Hd yX1_isSlope 1 := by unfold Hd; decide +kernel
set_option maxHeartbeats 4000000 in
set_option maxRecDepth 100000 in
theorem m_X1_isSlope {l : Launch} {D : DD} (x0 : Nat) (x0r0 : Nat) (x0r1 : Nat) (x0r2 : Nat)  (x0r0c : Nat → UInt64) (x0r1c : Nat → UInt64) (x0r2c : Nat → Int32) (x0f3 : Int32) (x0f4 : Int32) (x0f5 : Int32) (x0f6 : Int32) (x1 : Int32) (r : Bool) (h : f_X1_isSlope x0r0c x0r1c x0r2c x0f3 x0f4 x0f5 x0f6 x1 = some r) : MT l D yX1_isSlope cX1_isSlope 4 (some .boolean) 9 1411 41 425 [.ref x0, .int x1] (fun H => ON D 0 x0 [.ref x0r0, .ref x0r1, .ref x0r2, .int x0f3, .int x0f4, .int x0f5, .int x0f6] H ∧ aD D x0r0 8 x0r0c H ∧ aD D x0r1 8 x0r1c H ∧ aZ D x0r2 8 x0r2c H) (pZ (fun H b H' => b = r ∧ Off (fun _ => False) H H')) := by
  refine MT.start (by decide +kernel) (Nat.le_of_ble_eq_true rfl) ?_
  intro p e s m below meth c ls hC hS hp hl
  obtain ⟨h_x0, h_x0r0, h_x0r1, h_x0r2⟩ := hp
  obtain ⟨hx, hb, hr, hlk, hml, hown, hts, hnm⟩ := id hC
  have hl : lv_has ls 4 [(0, .ref x0), (1, .int x1)] := hl
  unfold f_X1_isSlope at h
  have hS0 := hS
  obtain ⟨A, eA⟩ : ∃ A : Array Value, A = [.ref x0, .int x1].toArray := ⟨_, rfl⟩
  rw [← eA] at hC hts ⊢
  obtain ⟨Q, eQ⟩ : ∃ Q : State → Prop, Q = MQ below (TQ D (pZ (fun H b H' => b = r ∧ Off (fun _ => False) H H'))) A s 41 425 (fun q => dB D ≤ q) := ⟨_, rfl⟩
  have hF : Off (fun _ => False) s.heap s.heap := Off.rf
  show W p l e R_X1_isSlope s m A below meth c s.heap [] 0 0 _ _
  rw [← eQ]
  obtain ⟨H, eH⟩ : ∃ H : Heap, H = s.heap := ⟨_, rfl⟩
  obtain ⟨locs, eLc⟩ : ∃ L : List Loc, L = [] := ⟨_, rfl⟩
  have lt_h_x0 := h_x0.lt
  have lt_h_x0r0 := h_x0r0.lt
  have lt_h_x0r1 := h_x0r1.lt
  have lt_h_x0r2 := h_x0r2.lt
  rw [← eH, ← eLc]
  have hF : Off (fun _ => False) s.heap H := by rw [eH]; exact hF
  rw [← eH] at h_x0
  rw [← eH] at h_x0r0
  rw [← eH] at h_x0r1
  rw [← eH] at h_x0r2
  have hS : St D s H locs := by rw [eH, eLc]; exact hS
  refine lv_aload_n hx hb dX1_isSlope_0 rfl (lv_at hl 0 rfl) ?_
  refine lv_iload_n hx hb dX1_isSlope_1 rfl (lv_at hl 1 rfl) ?_
  obtain ⟨o1, eo1, h⟩ := bind_step h
  refine r_cp (r_runV (rest := []) (As := [.int x1]) hC 1 (m_X1_angleAt x0 x0r0 x0r1 x0r2  x0r0c x0r1c x0r2c x0f3 x0f4 x0f5 x0f6 x1 o1 eo1) q952 q954 qs11 q46 q955 (OA.recv hS h_x0.OA (C := RX1) rfl) hd_X1_angleAt rfl ⟨Nat.le_of_ble_eq_true rfl, Nat.le_of_ble_eq_true rfl⟩ hS ⟨h_x0, h_x0r0, h_x0r1, h_x0r2⟩ hl.1 rfl (Nat.le_of_ble_eq_true rfl) dX1_isSlope_2 ⟨Nat.le_of_ble_eq_true rfl, Nat.le_of_ble_eq_true rfl⟩) ?_
  refine lv_dstore_n (lv' := [(2, .double o1), (0, .ref x0), (1, .int x1)]) hx hb dX1_isSlope_5 rfl hl (by decide) rfl (fun ls hl => ?_)
  refine lv_dload_n hx hb dX1_isSlope_6 rfl (lv_at hl 0 rfl) ?_
  obtain ⟨o2, eo2, h⟩ := bind_step h
  refine r_cd (r_runS (rest := []) (As := [.double o1]) hC 1 (m_J6_sin o1  o2 eo2) q173 q174 q47 q175 hd_J6_sin rfl ⟨Nat.le_of_ble_eq_true rfl, Nat.le_of_ble_eq_true rfl⟩ hS trivial hl.1 rfl (Nat.le_of_ble_eq_true rfl) dX1_isSlope_7 ⟨Nat.le_of_ble_eq_true rfl, Nat.le_of_ble_eq_true rfl⟩) hS (fun b H locs hp hS hz => ?_)
  obtain ⟨eb_, hO⟩ := hp
  rw [eb_]
  have h_x0 := h_x0.ext hO
  have h_x0r0 := h_x0r0.ext hO
  have h_x0r1 := h_x0r1.ext hO
  have h_x0r2 := h_x0r2.ext hO
  have hF := hF.trans (hO.mono (fun _ _ z => z.elim))
  refine lv_dload_n hx hb dX1_isSlope_10 rfl (lv_at hl 0 rfl) ?_
  obtain ⟨o3, eo3, h⟩ := bind_step h
  refine r_cd (r_runS (rest := [.double o2]) (As := [.double o1]) hC 1 (m_J6_cos o1  o3 eo3) q318 q319 q47 q320 hd_J6_cos rfl ⟨Nat.le_of_ble_eq_true rfl, Nat.le_of_ble_eq_true rfl⟩ hS trivial hl.1 rfl (Nat.le_of_ble_eq_true rfl) dX1_isSlope_11 ⟨Nat.le_of_ble_eq_true rfl, Nat.le_of_ble_eq_true rfl⟩) hS (fun b H locs hp hS hz => ?_)
  obtain ⟨eb_, hO⟩ := hp
  rw [eb_]
  have h_x0 := h_x0.ext hO
  have h_x0r0 := h_x0r0.ext hO
  have h_x0r1 := h_x0r1.ext hO
  have h_x0r2 := h_x0r2.ext hO
  have hF := hF.trans (hO.mono (fun _ _ z => z.elim))
  refine lv_dload_n hx hb dX1_isSlope_14 rfl (lv_at hl 0 rfl) ?_
  obtain ⟨o4, eo4, h⟩ := bind_step h
  refine r_cd (r_runS (rest := [.double o3, .double o2]) (As := [.double o1]) hC 1 (m_J6_tan o1  o4 eo4) q329 q330 q47 q331 hd_J6_tan rfl ⟨Nat.le_of_ble_eq_true rfl, Nat.le_of_ble_eq_true rfl⟩ hS trivial hl.1 rfl (Nat.le_of_ble_eq_true rfl) dX1_isSlope_15 ⟨Nat.le_of_ble_eq_true rfl, Nat.le_of_ble_eq_true rfl⟩) hS (fun b H locs hp hS hz => ?_)
  obtain ⟨eb_, hO⟩ := hp
  rw [eb_]
  have h_x0 := h_x0.ext hO
  have h_x0r0 := h_x0r0.ext hO
  have h_x0r1 := h_x0r1.ext hO
  have h_x0r2 := h_x0r2.ext hO
  have hF := hF.trans (hO.mono (fun _ _ z => z.elim))
  obtain ⟨o5, eo5, h⟩ := bind_step h
  refine r_cz (r_runS (rest := []) (As := [.double o2, .double o3, .double o4]) hC 3 (m_X1_isSlopeBy   o2 o3 o4 o5 eo5) q897 q898 q46 q899 hd_X1_isSlopeBy rfl ⟨Nat.le_of_ble_eq_true rfl, Nat.le_of_ble_eq_true rfl⟩ hS trivial hl.1 rfl (Nat.le_of_ble_eq_true rfl) dX1_isSlope_18 ⟨Nat.le_of_ble_eq_true rfl, Nat.le_of_ble_eq_true rfl⟩) hS (fun b H locs hp hS hz => ?_)
  obtain ⟨eb_, hO⟩ := hp
  rw [eb_]
  have h_x0 := h_x0.ext hO
  have h_x0r0 := h_x0r0.ext hO
  have h_x0r1 := h_x0r1.ext hO
  have h_x0r2 := h_x0r2.ext hO
  have hF := hF.trans (hO.mono (fun _ _ z => z.elim))
  obtain rfl := Option.some.inj h
  rw [eQ]
  exact r_zret hx hb hr hlk hS (narB _) (Nat.le_of_ble_eq_true rfl) (Nat.le_of_ble_eq_true rfl) dX1_isSlope_21 ⟨_, rfl, rfl, hF⟩

abbrev R_X1_holdsStep : Room := { frames := 10, cells := 67, slots := 707, locals := 1441 }
noncomputable def f_X1_holdsStep (x0r0c : Nat → UInt64) (x0r1c : Nat → UInt64) (x0r2c : Nat → Int32) (x0f3 : Int32) (x0f4 : Int32) (x0f5 : Int32) (x0f6 : Int32) (x1 : Int32) (x2 : Int32) : Option (Int32) :=
  Option.bind (f_X1_angleAt x0r0c x0r1c x0r2c x0f3 x0f4 x0f5 x0f6 x1) fun o1 =>
  Option.bind (f_X1_isIn x2 0 1) fun o2 =>
  Option.bind (f_X1_mustFit o2) fun o3 =>
  Option.bind (f_X1_isStep o1) fun o4 =>
  (if o4 = true then
    ck (daddF o1 4593671619917905920) fun v6 =>
    Option.bind (f_J6_sin o1) fun o7 =>
    Option.bind (f_J6_cos o1) fun o8 =>
    Option.bind (f_X1_isStepBy x2 v6 o7 o8) fun o9 =>
    Option.bind (f_X1_bit o9) fun o10 =>
    some o10
  else
    some (-9)
  )
theorem hd_X1_holdsStep : Hd yX1_holdsStep 2 := by unfold Hd; decide +kernel
set_option maxHeartbeats 4000000 in
set_option maxRecDepth 100000 in
theorem m_X1_holdsStep {l : Launch} {D : DD} (x0 : Nat) (x0r0 : Nat) (x0r1 : Nat) (x0r2 : Nat)  (x0r0c : Nat → UInt64) (x0r1c : Nat → UInt64) (x0r2c : Nat → Int32) (x0f3 : Int32) (x0f4 : Int32) (x0f5 : Int32) (x0f6 : Int32) (x1 : Int32) (x2 : Int32) (r : Int32) (h : f_X1_holdsStep x0r0c x0r1c x0r2c x0f3 x0f4 x0f5 x0f6 x1 x2 = some r) : MT l D yX1_holdsStep cX1_holdsStep 5 (some .int) 10 1441 67 707 [.ref x0, .int x1, .int x2] (fun H => ON D 0 x0 [.ref x0r0, .ref x0r1, .ref x0r2, .int x0f3, .int x0f4, .int x0f5, .int x0f6] H ∧ aD D x0r0 8 x0r0c H ∧ aD D x0r1 8 x0r1c H ∧ aZ D x0r2 8 x0r2c H) (pI (fun H b H' => b = r ∧ Off (fun _ => False) H H')) := by
  refine MT.start (by decide +kernel) (Nat.le_of_ble_eq_true rfl) ?_
  intro p e s m below meth c ls hC hS hp hl
  obtain ⟨h_x0, h_x0r0, h_x0r1, h_x0r2⟩ := hp
  obtain ⟨hx, hb, hr, hlk, hml, hown, hts, hnm⟩ := id hC
  have hl : lv_has ls 5 [(0, .ref x0), (1, .int x1), (2, .int x2)] := hl
  unfold f_X1_holdsStep at h
  have hS0 := hS
  obtain ⟨A, eA⟩ : ∃ A : Array Value, A = [.ref x0, .int x1, .int x2].toArray := ⟨_, rfl⟩
  rw [← eA] at hC hts ⊢
  obtain ⟨Q, eQ⟩ : ∃ Q : State → Prop, Q = MQ below (TQ D (pI (fun H b H' => b = r ∧ Off (fun _ => False) H H'))) A s 67 707 (fun q => dB D ≤ q) := ⟨_, rfl⟩
  have hF : Off (fun _ => False) s.heap s.heap := Off.rf
  show W p l e R_X1_holdsStep s m A below meth c s.heap [] 0 0 _ _
  rw [← eQ]
  obtain ⟨H, eH⟩ : ∃ H : Heap, H = s.heap := ⟨_, rfl⟩
  obtain ⟨locs, eLc⟩ : ∃ L : List Loc, L = [] := ⟨_, rfl⟩
  have lt_h_x0 := h_x0.lt
  have lt_h_x0r0 := h_x0r0.lt
  have lt_h_x0r1 := h_x0r1.lt
  have lt_h_x0r2 := h_x0r2.lt
  rw [← eH, ← eLc]
  have hF : Off (fun _ => False) s.heap H := by rw [eH]; exact hF
  rw [← eH] at h_x0
  rw [← eH] at h_x0r0
  rw [← eH] at h_x0r1
  rw [← eH] at h_x0r2
  have hS : St D s H locs := by rw [eH, eLc]; exact hS
  refine lv_aload_n hx hb dX1_holdsStep_0 rfl (lv_at hl 0 rfl) ?_
  refine lv_iload_n hx hb dX1_holdsStep_1 rfl (lv_at hl 1 rfl) ?_
  obtain ⟨o1, eo1, h⟩ := bind_step h
  refine r_cp (r_runV (rest := []) (As := [.int x1]) hC 1 (m_X1_angleAt x0 x0r0 x0r1 x0r2  x0r0c x0r1c x0r2c x0f3 x0f4 x0f5 x0f6 x1 o1 eo1) q952 q954 qs11 q46 q955 (OA.recv hS h_x0.OA (C := RX1) rfl) hd_X1_angleAt rfl ⟨Nat.le_of_ble_eq_true rfl, Nat.le_of_ble_eq_true rfl⟩ hS ⟨h_x0, h_x0r0, h_x0r1, h_x0r2⟩ hl.1 rfl (Nat.le_of_ble_eq_true rfl) dX1_holdsStep_2 ⟨Nat.le_of_ble_eq_true rfl, Nat.le_of_ble_eq_true rfl⟩) ?_
  refine lv_dstore_n (lv' := [(3, .double o1), (0, .ref x0), (1, .int x1), (2, .int x2)]) hx hb dX1_holdsStep_5 rfl hl (by decide) rfl (fun ls hl => ?_)
  refine lv_iload_n hx hb dX1_holdsStep_6 rfl (lv_at hl 3 rfl) ?_
  refine lv_iconst (v := 0) hx hb dX1_holdsStep_7 (by decide) ?_
  refine lv_iconst (v := 1) hx hb dX1_holdsStep_8 (by decide) ?_
  obtain ⟨o2, eo2, h⟩ := bind_step h
  refine r_cp (r_runS (rest := []) (As := [.int x2, .int 0, .int 1]) hC 3 (m_X1_isIn   x2 0 1 o2 eo2) q395 q396 q46 q397 hd_X1_isIn rfl ⟨Nat.le_of_ble_eq_true rfl, Nat.le_of_ble_eq_true rfl⟩ hS trivial hl.1 rfl (Nat.le_of_ble_eq_true rfl) dX1_holdsStep_9 ⟨Nat.le_of_ble_eq_true rfl, Nat.le_of_ble_eq_true rfl⟩) ?_
  obtain ⟨o3, eo3, h⟩ := bind_step h
  refine r_cpv (r_runS (rest := []) (As := [.int (bI o2)]) hC 1 (m_X1_mustFit   o2 o3 eo3) q1230 q1231 q46 q1232 hd_X1_mustFit rfl ⟨Nat.le_of_ble_eq_true rfl, Nat.le_of_ble_eq_true rfl⟩ hS trivial hl.1 rfl (Nat.le_of_ble_eq_true rfl) dX1_holdsStep_12 ⟨Nat.le_of_ble_eq_true rfl, Nat.le_of_ble_eq_true rfl⟩) ?_
  refine lv_dload_n hx hb dX1_holdsStep_15 rfl (lv_at hl 0 rfl) ?_
  obtain ⟨o4, eo4, h⟩ := bind_step h
  refine r_cp (r_runS (rest := []) (As := [.double o1]) hC 1 (m_X1_isStep   o1 o4 eo4) q907 q908 q46 q909 hd_X1_isStep rfl ⟨Nat.le_of_ble_eq_true rfl, Nat.le_of_ble_eq_true rfl⟩ hS trivial hl.1 rfl (Nat.le_of_ble_eq_true rfl) dX1_holdsStep_16 ⟨Nat.le_of_ble_eq_true rfl, Nat.le_of_ble_eq_true rfl⟩) ?_
  refine r_ifz_ne (tgt := 25) hx hb dX1_holdsStep_19 (by decide) (fun c5 => ?_) (fun c5 => ?_)
  · have h := it_pos h (by rw [c5])
    refine lv_iload_n hx hb dX1_holdsStep_25 rfl (lv_at hl 3 rfl) ?_
    refine lv_dload_n hx hb dX1_holdsStep_26 rfl (lv_at hl 0 rfl) ?_
    refine lv_ldc2d hx hb (v := 4593671619917905920) hown (hts _ q910) dX1_holdsStep_27 ?_
    obtain ⟨v6, ev6, nv6, h⟩ := ck_step h
    refine r_dadd hx hb ev6 nv6 dX1_holdsStep_30 ?_
    refine lv_dload_n hx hb dX1_holdsStep_31 rfl (lv_at hl 0 rfl) ?_
    obtain ⟨o7, eo7, h⟩ := bind_step h
    refine r_cd (r_runS (rest := [.double v6, .int x2]) (As := [.double o1]) hC 1 (m_J6_sin o1  o7 eo7) q173 q174 q47 q175 hd_J6_sin rfl ⟨Nat.le_of_ble_eq_true rfl, Nat.le_of_ble_eq_true rfl⟩ hS trivial hl.1 rfl (Nat.le_of_ble_eq_true rfl) dX1_holdsStep_32 ⟨Nat.le_of_ble_eq_true rfl, Nat.le_of_ble_eq_true rfl⟩) hS (fun b H locs hp hS hz => ?_)
    obtain ⟨eb_, hO⟩ := hp
    rw [eb_]
    have h_x0 := h_x0.ext hO
    have h_x0r0 := h_x0r0.ext hO
    have h_x0r1 := h_x0r1.ext hO
    have h_x0r2 := h_x0r2.ext hO
    have hF := hF.trans (hO.mono (fun _ _ z => z.elim))
    refine lv_dload_n hx hb dX1_holdsStep_35 rfl (lv_at hl 0 rfl) ?_
    obtain ⟨o8, eo8, h⟩ := bind_step h
    refine r_cd (r_runS (rest := [.double o7, .double v6, .int x2]) (As := [.double o1]) hC 1 (m_J6_cos o1  o8 eo8) q318 q319 q47 q320 hd_J6_cos rfl ⟨Nat.le_of_ble_eq_true rfl, Nat.le_of_ble_eq_true rfl⟩ hS trivial hl.1 rfl (Nat.le_of_ble_eq_true rfl) dX1_holdsStep_36 ⟨Nat.le_of_ble_eq_true rfl, Nat.le_of_ble_eq_true rfl⟩) hS (fun b H locs hp hS hz => ?_)
    obtain ⟨eb_, hO⟩ := hp
    rw [eb_]
    have h_x0 := h_x0.ext hO
    have h_x0r0 := h_x0r0.ext hO
    have h_x0r1 := h_x0r1.ext hO
    have h_x0r2 := h_x0r2.ext hO
    have hF := hF.trans (hO.mono (fun _ _ z => z.elim))
    obtain ⟨o9, eo9, h⟩ := bind_step h
    refine r_cz (r_runS (rest := []) (As := [.int x2, .double v6, .double o7, .double o8]) hC 4 (m_X1_isStepBy   x2 v6 o7 o8 o9 eo9) q911 q912 q46 q913 hd_X1_isStepBy rfl ⟨Nat.le_of_ble_eq_true rfl, Nat.le_of_ble_eq_true rfl⟩ hS trivial hl.1 rfl (Nat.le_of_ble_eq_true rfl) dX1_holdsStep_39 ⟨Nat.le_of_ble_eq_true rfl, Nat.le_of_ble_eq_true rfl⟩) hS (fun b H locs hp hS hz => ?_)
    obtain ⟨eb_, hO⟩ := hp
    rw [eb_]
    have h_x0 := h_x0.ext hO
    have h_x0r0 := h_x0r0.ext hO
    have h_x0r1 := h_x0r1.ext hO
    have h_x0r2 := h_x0r2.ext hO
    have hF := hF.trans (hO.mono (fun _ _ z => z.elim))
    obtain ⟨o10, eo10, h⟩ := bind_step h
    refine r_cp (r_runS (rest := []) (As := [.int (bI o9)]) hC 1 (m_X1_bit   o9 o10 eo10) q389 q390 q46 q391 hd_X1_bit rfl ⟨Nat.le_of_ble_eq_true rfl, Nat.le_of_ble_eq_true rfl⟩ hS trivial hl.1 rfl (Nat.le_of_ble_eq_true rfl) dX1_holdsStep_42 ⟨Nat.le_of_ble_eq_true rfl, Nat.le_of_ble_eq_true rfl⟩) ?_
    obtain rfl := Option.some.inj h
    rw [eQ]
    exact r_iret hx hb hr hlk hS (Nat.le_of_ble_eq_true rfl) (Nat.le_of_ble_eq_true rfl) dX1_holdsStep_45 ⟨_, rfl, rfl, hF⟩
  · have h := it_neg h (by rw [c5]; decide)
    refine lv_bipush (v := (-9)) hx hb dX1_holdsStep_22 (by decide) ?_
    obtain rfl := Option.some.inj h
    rw [eQ]
    exact r_iret hx hb hr hlk hS (Nat.le_of_ble_eq_true rfl) (Nat.le_of_ble_eq_true rfl) dX1_holdsStep_24 ⟨_, rfl, rfl, hF⟩

abbrev R_X1_isInSet : Room := { frames := 5, cells := 0, slots := 0, locals := 112 }
noncomputable def f_X1_isInSet (x0 : UInt64) : Option (Bool) :=
  Option.bind (f_X1_eighthsOf x0) fun o1 =>
  (if o1 = (-2147483648) then
    Option.bind (f_X1_doublingsOf x0) fun o3 =>
    (if o3 < 0 then
      some false
    else
      some true
    )
  else
    some true
  )
theorem hd_X1_isInSet : Hd yX1_isInSet 1 := by unfold Hd; decide +kernel
set_option maxHeartbeats 4000000 in
set_option maxRecDepth 100000 in
theorem m_X1_isInSet {l : Launch} {D : DD}   (x0 : UInt64) (r : Bool) (h : f_X1_isInSet x0 = some r) : MP l D yX1_isInSet cX1_isInSet 2 (some .boolean) 5 112 [.double x0] NoPre (some (.int (bI r))) := by
  refine MP.start (by decide +kernel) (Nat.le_of_ble_eq_true rfl) ?_
  intro p e s m below meth c ls hC hS hp hl
  obtain ⟨hx, hb, hr, hlk, hml, hown, hts, hnm⟩ := id hC
  have hl : lv_has ls 2 [(0, .double x0)] := hl
  unfold f_X1_isInSet at h
  have hS0 := hS
  obtain ⟨A, eA⟩ : ∃ A : Array Value, A = [.double x0].toArray := ⟨_, rfl⟩
  rw [← eA] at hC hts ⊢
  obtain ⟨Q, eQ⟩ : ∃ Q : State → Prop, Q = MQ below (PQ (some (.int (bI r)))) A s 0 0 (fun _ => False) := ⟨_, rfl⟩
  show W p l e R_X1_isInSet s m A below meth c s.heap [] 0 0 _ _
  rw [← eQ]
  refine lv_dload_n hx hb dX1_isInSet_0 rfl (lv_at hl 0 rfl) ?_
  obtain ⟨o1, eo1, h⟩ := bind_step h
  refine r_cp (r_runS (rest := []) (As := [.double x0]) hC 1 (m_X1_eighthsOf   x0 o1 eo1) q357 q358 q46 q359 hd_X1_eighthsOf rfl ⟨Nat.le_of_ble_eq_true rfl, Nat.le_of_ble_eq_true rfl⟩ hS trivial hl.1 rfl (Nat.le_of_ble_eq_true rfl) dX1_isInSet_1 ⟨Nat.le_of_ble_eq_true rfl, Nat.le_of_ble_eq_true rfl⟩) ?_
  refine lv_ldc hx hb (v := (-2147483648)) hown (hts _ q379) dX1_isInSet_4 ?_
  refine lv_icmp_ne (tgt := 16) hx hb dX1_isInSet_6 (by decide) (fun c2 => ?_) (fun c2 => ?_)
  · have h := it_neg h c2
    refine lv_iconst (v := 1) hx hb dX1_isInSet_16 (by decide) ?_
    refine lv_goto (tgt := 21) hx hb dX1_isInSet_17 (by decide) ?_
    obtain rfl := Option.some.inj h
    rw [eQ]
    exact p_zret hx hb hr hlk (by decide) dX1_isInSet_21 rfl
  · have h := it_pos h c2
    refine lv_dload_n hx hb dX1_isInSet_9 rfl (lv_at hl 0 rfl) ?_
    obtain ⟨o3, eo3, h⟩ := bind_step h
    refine r_cp (r_runS (rest := []) (As := [.double x0]) hC 1 (m_X1_doublingsOf   x0 o3 eo3) q392 q393 q46 q394 hd_X1_doublingsOf rfl ⟨Nat.le_of_ble_eq_true rfl, Nat.le_of_ble_eq_true rfl⟩ hS trivial hl.1 rfl (Nat.le_of_ble_eq_true rfl) dX1_isInSet_10 ⟨Nat.le_of_ble_eq_true rfl, Nat.le_of_ble_eq_true rfl⟩) ?_
    refine lv_if_lt (tgt := 20) hx hb dX1_isInSet_13 (by decide) (fun c4 => ?_) (fun c4 => ?_)
    · have h := it_pos h c4
      refine lv_iconst (v := 0) hx hb dX1_isInSet_20 (by decide) ?_
      obtain rfl := Option.some.inj h
      rw [eQ]
      exact p_zret hx hb hr hlk (by decide) dX1_isInSet_21 rfl
    · have h := it_neg h c4
      refine lv_iconst (v := 1) hx hb dX1_isInSet_16 (by decide) ?_
      refine lv_goto (tgt := 21) hx hb dX1_isInSet_17 (by decide) ?_
      obtain rfl := Option.some.inj h
      rw [eQ]
      exact p_zret hx hb hr hlk (by decide) dX1_isInSet_21 rfl

abbrev R_X1_isRoundBy : Room := { frames := 7, cells := 29, slots := 230, locals := 177 }
noncomputable def f_X1_isRoundBy (x0 : UInt64) (x1 : UInt64) : Option (Bool) :=
  Option.bind (f_X1_square x0) fun o1 =>
  Option.bind (f_X1_square x1) fun o8 =>
  Option.bind (f_J16_add o1.1 o1.2.1 o1.2.2 o8.1 o8.2.1 o8.2.2) fun o15 =>
  Option.bind (f_X1_isNear o15.1 o15.2.1 o15.2.2 4607182418800017408 240) fun o22 =>
  some o22
theorem hd_X1_isRoundBy : Hd yX1_isRoundBy 2 := by unfold Hd; decide +kernel
set_option maxHeartbeats 4000000 in
set_option maxRecDepth 100000 in
theorem m_X1_isRoundBy {l : Launch} {D : DD}   (x0 : UInt64) (x1 : UInt64) (r : Bool) (h : f_X1_isRoundBy x0 x1 = some r) : MT l D yX1_isRoundBy cX1_isRoundBy 4 (some .boolean) 7 177 29 230 [.double x0, .double x1] NoPre (pZ (fun H b H' => b = r ∧ Off (fun _ => False) H H')) := by
  refine MT.start (by decide +kernel) (Nat.le_of_ble_eq_true rfl) ?_
  intro p e s m below meth c ls hC hS hp hl
  obtain ⟨hx, hb, hr, hlk, hml, hown, hts, hnm⟩ := id hC
  have hl : lv_has ls 4 [(0, .double x0), (2, .double x1)] := hl
  unfold f_X1_isRoundBy at h
  have hS0 := hS
  obtain ⟨A, eA⟩ : ∃ A : Array Value, A = [.double x0, .double x1].toArray := ⟨_, rfl⟩
  rw [← eA] at hC hts ⊢
  obtain ⟨Q, eQ⟩ : ∃ Q : State → Prop, Q = MQ below (TQ D (pZ (fun H b H' => b = r ∧ Off (fun _ => False) H H'))) A s 29 230 (fun q => dB D ≤ q) := ⟨_, rfl⟩
  have hF : Off (fun _ => False) s.heap s.heap := Off.rf
  show W p l e R_X1_isRoundBy s m A below meth c s.heap [] 0 0 _ _
  rw [← eQ]
  obtain ⟨H, eH⟩ : ∃ H : Heap, H = s.heap := ⟨_, rfl⟩
  obtain ⟨locs, eLc⟩ : ∃ L : List Loc, L = [] := ⟨_, rfl⟩
  rw [← eH, ← eLc]
  have hF : Off (fun _ => False) s.heap H := by rw [eH]; exact hF
  have hS : St D s H locs := by rw [eH, eLc]; exact hS
  refine lv_dload_n hx hb dX1_isRoundBy_0 rfl (lv_at hl 0 rfl) ?_
  obtain ⟨o1, eo1, h⟩ := bind_step h
  refine r_cr (r_runS (rest := []) (As := [.double x0]) hC 1 (m_X1_square   x0 o1 eo1) q409 q410 q46 q411 hd_X1_square rfl ⟨Nat.le_of_ble_eq_true rfl, Nat.le_of_ble_eq_true rfl⟩ hS trivial hl.1 rfl (Nat.le_of_ble_eq_true rfl) dX1_isRoundBy_1 ⟨Nat.le_of_ble_eq_true rfl, Nat.le_of_ble_eq_true rfl⟩) hS (fun ad2 H locs hp hS hz => ?_)
  obtain ⟨ad3, e4, e5, e6, e7, had2, had3, lo1_2_1, hO⟩ := hp
  have hF := hF.trans (hO.mono (fun _ _ z => z.elim))
  refine lv_dload_n hx hb dX1_isRoundBy_4 rfl (lv_at hl 1 rfl) ?_
  obtain ⟨o8, eo8, h⟩ := bind_step h
  refine r_cr (r_runS (rest := [.ref ad2]) (As := [.double x1]) hC 1 (m_X1_square   x1 o8 eo8) q409 q410 q46 q411 hd_X1_square rfl ⟨Nat.le_of_ble_eq_true rfl, Nat.le_of_ble_eq_true rfl⟩ hS trivial hl.1 rfl (Nat.le_of_ble_eq_true rfl) dX1_isRoundBy_5 ⟨Nat.le_of_ble_eq_true rfl, Nat.le_of_ble_eq_true rfl⟩) hS (fun ad9 H locs hp hS hz => ?_)
  obtain ⟨ad10, e11, e12, e13, e14, had9, had10, lo8_2_1, hO⟩ := hp
  have had2 := had2.ext hO
  have had3 := had3.ext hO
  have hF := hF.trans (hO.mono (fun _ _ z => z.elim))
  obtain ⟨o15, eo15, h⟩ := bind_step h
  refine r_cr (r_runV (rest := []) (As := [.ref ad9]) hC 1 (m_J16_add ad2 ad3 ad9 ad10 e4 e5 e6 e7 e11 e12 e13 e14 o1.1 o1.2.1 o1.2.2 o8.1 o8.2.1 o8.2.2 o15 eo15) q887 q830 q831 q57 q832 (OA.recv hS had2 (C := RJ16) rfl) hd_J16_add rfl ⟨Nat.le_of_ble_eq_true rfl, Nat.le_of_ble_eq_true rfl⟩ hS ⟨had2, had3, lo1_2_1, had9, had10, lo8_2_1⟩ hl.1 rfl (Nat.le_of_ble_eq_true rfl) dX1_isRoundBy_8 ⟨Nat.le_of_ble_eq_true rfl, Nat.le_of_ble_eq_true rfl⟩) hS (fun ad16 H locs hp hS hz => ?_)
  obtain ⟨ad17, e18, e19, e20, e21, had16, had17, lo15_2_1, hO⟩ := hp
  have had2 := had2.ext hO
  have had3 := had3.ext hO
  have had9 := had9.ext hO
  have had10 := had10.ext hO
  have hF := hF.trans (hO.mono (fun _ _ z => z.elim))
  refine lv_dconst1 hx hb dX1_isRoundBy_11 ?_
  refine lv_sipush (v := 240) hx hb dX1_isRoundBy_12 (by decide) ?_
  obtain ⟨o22, eo22, h⟩ := bind_step h
  refine r_cz (r_runS (rest := []) (As := [.ref ad16, .double 4607182418800017408, .int 240]) hC 3 (m_X1_isNear ad16 ad17 e18 e19 e20 e21 o15.1 o15.2.1 o15.2.2 4607182418800017408 240 o22 eo22) q888 q889 q46 q890 hd_X1_isNear rfl ⟨Nat.le_of_ble_eq_true rfl, Nat.le_of_ble_eq_true rfl⟩ hS ⟨had16, had17, lo15_2_1⟩ hl.1 rfl (Nat.le_of_ble_eq_true rfl) dX1_isRoundBy_15 ⟨Nat.le_of_ble_eq_true rfl, Nat.le_of_ble_eq_true rfl⟩) hS (fun b H locs hp hS hz => ?_)
  obtain ⟨eb_, hO⟩ := hp
  rw [eb_]
  have had2 := had2.ext hO
  have had3 := had3.ext hO
  have had9 := had9.ext hO
  have had10 := had10.ext hO
  have had16 := had16.ext hO
  have had17 := had17.ext hO
  have hF := hF.trans (hO.mono (fun _ _ z => z.elim))
  obtain rfl := Option.some.inj h
  rw [eQ]
  exact r_zret hx hb hr hlk hS (narB _) (Nat.le_of_ble_eq_true rfl) (Nat.le_of_ble_eq_true rfl) dX1_isRoundBy_18 ⟨_, rfl, rfl, hF⟩

abbrev R_X1_digest : Room := { frames := 12, cells := 724, slots := 5189, locals := 1481 }
noncomputable def f_X1_digest (x0r0c : Nat → UInt64) (x0r1c : Nat → UInt64) (x0r2c : Nat → Int32) (x0f3 : Int32) (x0f4 : Int32) (x0f5 : Int32) (x0f6 : Int32) : Option (Int64) :=
  lt (fun (v1 : Int64) (v2 : Int32) =>
  (show Option (Sum (Int64 × Int32) (Int64)) from (
  (if 8 ≤ v2 then
    some (.inr v1)
  else
    Option.bind (f_X1_angleUpper x0r0c x0r1c x0r2c x0f3 x0f4 x0f5 x0f6 v2) fun o22 =>
    ltl (o22.toInt64) fun v23 =>
    Option.bind (f_X1_add v1 v23) fun o24 =>
    Option.bind (f_X1_angleFind x0r0c x0r1c x0r2c x0f3 x0f4 x0f5 x0f6 v2 false) fun o25 =>
    ltl (o25.toInt64) fun v26 =>
    Option.bind (f_X1_add o24 v26) fun o27 =>
    Option.bind (f_X1_angleFind x0r0c x0r1c x0r2c x0f3 x0f4 x0f5 x0f6 v2 true) fun o28 =>
    ltl (o28.toInt64) fun v29 =>
    Option.bind (f_X1_add o27 v29) fun o30 =>
    Option.bind (f_X1_quarter x0r0c x0r1c x0r2c x0f3 x0f4 x0f5 x0f6 v2) fun o31 =>
    ltl (o31.toInt64) fun v32 =>
    Option.bind (f_X1_add o30 v32) fun o33 =>
    lti (v2 + 1) fun v34 =>
    some (.inl (o33, v34))
  )
  ))
  ) fun F18 =>
  Option.bind (lp 9 (fun x => F18 x.1 x.2) (7675, 0)) fun w19 =>
  lt (fun (v35 : Int64) (v36 : Int32) =>
  (show Option (Sum (Int64 × Int32) (Int64)) from (
  (if 8 ≤ v36 then
    some (.inr v35)
  else
    Option.bind (f_X1_whole x0r0c x0r1c x0r2c x0f3 x0f4 x0f5 x0f6 v36) fun o59 =>
    ltl (o59.toInt64) fun v60 =>
    Option.bind (f_X1_add v35 v60) fun o61 =>
    Option.bind (f_X1_steps x0r0c x0r1c x0r2c x0f3 x0f4 x0f5 x0f6 v36 30) fun o62 =>
    ltl (o62.toInt64) fun v63 =>
    Option.bind (f_X1_add o61 v63) fun o64 =>
    Option.bind (f_X1_upper x0r0c x0r1c x0r2c x0f3 x0f4 x0f5 x0f6 v36) fun o65 =>
    ltl (o65.toInt64) fun v66 =>
    Option.bind (f_X1_add o64 v66) fun o67 =>
    Option.bind (f_X1_heightFind x0r0c x0r1c x0r2c x0f3 x0f4 x0f5 x0f6 v36 false) fun o68 =>
    ltl (o68.toInt64) fun v69 =>
    Option.bind (f_X1_add o67 v69) fun o70 =>
    Option.bind (f_X1_heightFind x0r0c x0r1c x0r2c x0f3 x0f4 x0f5 x0f6 v36 true) fun o71 =>
    ltl (o71.toInt64) fun v72 =>
    Option.bind (f_X1_add o70 v72) fun o73 =>
    lti (v36 + 1) fun v74 =>
    some (.inl (o73, v74))
  )
  ))
  ) fun F55 =>
  Option.bind (lp 9 (fun x => F55 x.1 x.2) (w19, 0)) fun w56 =>
  lt (fun (v75 : Int64) (v76 : Int32) =>
  (show Option (Sum (Int64 × Int32) (Int64)) from (
  (if 8 ≤ v76 then
    some (.inr v75)
  else
    lti (v76 + 1) fun v96 =>
    lt (fun (v97 : Int64) (v98 : Int32) =>
    (show Option (Sum (Int64 × Int32) (Int64)) from (
    (if 8 ≤ v98 then
      some (.inr v97)
    else
      Option.bind (f_X1_heightOrder x0r0c x0r1c x0r2c x0f3 x0f4 x0f5 x0f6 v76 v98 0) fun o112 =>
      ltl (o112.toInt64) fun v113 =>
      Option.bind (f_X1_add v97 v113) fun o114 =>
      Option.bind (f_X1_sizeOrder x0r0c x0r1c x0r2c x0f3 x0f4 x0f5 x0f6 v76 v98) fun o115 =>
      ltl (o115.toInt64) fun v116 =>
      Option.bind (f_X1_add o114 v116) fun o117 =>
      lti (v98 + 1) fun v118 =>
      some (.inl (o117, v118))
    )
    ))
    ) fun F108 =>
    Option.bind (lp 9 (fun x => F108 x.1 x.2) (v75, v96)) fun w109 =>
    lti (v76 + 1) fun v119 =>
    some (.inl (w109, v119))
  )
  ))
  ) fun F92 =>
  Option.bind (lp 9 (fun x => F92 x.1 x.2) (w56, 0)) fun w93 =>
  lt (fun (v120 : Int64) (v121 : Int32) =>
  (show Option (Sum (Int64 × Int32) (Int64)) from (
  (if 4 ≤ v121 then
    some (.inr v120)
  else
    Option.bind (f_X1_house x0r0c x0r1c x0r2c x0f3 x0f4 x0f5 x0f6 v121) fun o132 =>
    ltl (o132.toInt64) fun v133 =>
    Option.bind (f_X1_add v120 v133) fun o134 =>
    lti (v121 + 1) fun v135 =>
    some (.inl (o134, v135))
  )
  ))
  ) fun F128 =>
  Option.bind (lp 9 (fun x => F128 x.1 x.2) (w93, 0)) fun w129 =>
  Option.bind (f_X1_isSound x0r0c x0r1c x0r2c x0f3 x0f4 x0f5 x0f6) fun o136 =>
  Option.bind (f_X1_bit o136) fun o137 =>
  ltl (o137.toInt64) fun v138 =>
  Option.bind (f_X1_add w129 v138) fun o139 =>
  some o139
theorem hd_X1_digest : Hd yX1_digest 0 := by unfold Hd; decide +kernel
set_option maxHeartbeats 4000000 in
set_option maxRecDepth 100000 in
theorem m_X1_digest {l : Launch} {D : DD} (x0 : Nat) (x0r0 : Nat) (x0r1 : Nat) (x0r2 : Nat)  (x0r0c : Nat → UInt64) (x0r1c : Nat → UInt64) (x0r2c : Nat → Int32) (x0f3 : Int32) (x0f4 : Int32) (x0f5 : Int32) (x0f6 : Int32) (r : Int64) (h : f_X1_digest x0r0c x0r1c x0r2c x0f3 x0f4 x0f5 x0f6 = some r) : MT l D yX1_digest cX1_digest 5 (some .long) 12 1481 724 5189 [.ref x0] (fun H => ON D 0 x0 [.ref x0r0, .ref x0r1, .ref x0r2, .int x0f3, .int x0f4, .int x0f5, .int x0f6] H ∧ aD D x0r0 8 x0r0c H ∧ aD D x0r1 8 x0r1c H ∧ aZ D x0r2 8 x0r2c H) (pL (fun H b H' => b = r ∧ Off (fun _ => False) H H')) := by
  refine MT.start (by decide +kernel) (Nat.le_of_ble_eq_true rfl) ?_
  intro p e s m below meth c ls hC hS hp hl
  obtain ⟨h_x0, h_x0r0, h_x0r1, h_x0r2⟩ := hp
  obtain ⟨hx, hb, hr, hlk, hml, hown, hts, hnm⟩ := id hC
  have hl : lv_has ls 5 [(0, .ref x0)] := hl
  unfold f_X1_digest at h
  have hS0 := hS
  obtain ⟨A, eA⟩ : ∃ A : Array Value, A = [.ref x0].toArray := ⟨_, rfl⟩
  rw [← eA] at hC hts ⊢
  obtain ⟨Q, eQ⟩ : ∃ Q : State → Prop, Q = MQ below (TQ D (pL (fun H b H' => b = r ∧ Off (fun _ => False) H H'))) A s 724 5189 (fun q => dB D ≤ q) := ⟨_, rfl⟩
  have hF : Off (fun _ => False) s.heap s.heap := Off.rf
  show W p l e R_X1_digest s m A below meth c s.heap [] 0 0 _ _
  rw [← eQ]
  obtain ⟨H, eH⟩ : ∃ H : Heap, H = s.heap := ⟨_, rfl⟩
  obtain ⟨locs, eLc⟩ : ∃ L : List Loc, L = [] := ⟨_, rfl⟩
  have lt_h_x0 := h_x0.lt
  have lt_h_x0r0 := h_x0r0.lt
  have lt_h_x0r1 := h_x0r1.lt
  have lt_h_x0r2 := h_x0r2.lt
  rw [← eH, ← eLc]
  have hF : Off (fun _ => False) s.heap H := by rw [eH]; exact hF
  rw [← eH] at h_x0
  rw [← eH] at h_x0r0
  rw [← eH] at h_x0r1
  rw [← eH] at h_x0r2
  have hS : St D s H locs := by rw [eH, eLc]; exact hS
  refine lv_ldc2 hx hb (v := 7675) hown (hts _ q1260) dX1_digest_0 ?_
  refine lv_lstore_n (lv' := [(1, .long 7675), (0, .ref x0)]) hx hb dX1_digest_3 rfl hl (by decide) rfl (fun ls hl => ?_)
  refine lv_iconst (v := 0) hx hb dX1_digest_4 (by decide) ?_
  refine lv_istore_n (lv' := [(3, .int 0), (1, .long 7675), (0, .ref x0)]) hx hb dX1_digest_5 rfl hl (by decide) rfl (fun ls hl => ?_)
  obtain ⟨F18, eF18, h⟩ := lt_step h
  obtain ⟨w19, ew19, h⟩ := bind_step h
  obtain ⟨CE, eCE⟩ : ∃ x : Nat, x = 0 + 108 := ⟨_, rfl⟩
  obtain ⟨SE, eSE⟩ : ∃ x : Nat, x = 0 + 1530 := ⟨_, rfl⟩
  have hCE : CE ≤ R_X1_digest.cells := (by rw [eCE]; exact Nat.le_of_ble_eq_true rfl)
  have hSE : SE ≤ R_X1_digest.slots := (by rw [eSE]; exact Nat.le_of_ble_eq_true rfl)
  have HL : ∀ (n : Nat) (v1 : Int64) (v2 : Int32) (w19 : Int64) (hk0 : lp n (fun x => F18 x.1 x.2) (v1, v2) = some w19) (cl : Nat) (sl : Nat) (hcl : cl + 12 * n ≤ CE) (hsl : sl + 170 * n ≤ SE) (H : Heap) (locs : List Loc) (hS : St D s H locs) (hF : Off (fun _ => False) s.heap H) (h_x0 : ON D 0 x0 [.ref x0r0, .ref x0r1, .ref x0r2, .int x0f3, .int x0f4, .int x0f5, .int x0f6] H) (h_x0r0 : aD D x0r0 8 x0r0c H) (h_x0r1 : aD D x0r1 8 x0r1c H) (h_x0r2 : aZ D x0r2 8 x0r2c H) (ls : Array Slot) (hl : lv_has ls 5 [(0, .ref x0), (1, .long v1), (3, .int v2)]) (K60 : ∀ (H : Heap) (locs : List Loc) (hS : St D s H locs) (hF : Off (fun _ => False) s.heap H) (h_x0 : ON D 0 x0 [.ref x0r0, .ref x0r1, .ref x0r2, .int x0f3, .int x0f4, .int x0f5, .int x0f6] H) (h_x0r0 : aD D x0r0 8 x0r0c H) (h_x0r1 : aD D x0r1 8 x0r1c H) (h_x0r2 : aZ D x0r2 8 x0r2c H) (ls : Array Slot) (hl : lv_has ls 5 [(0, .ref x0), (1, .long w19)]), W p l e R_X1_digest s m A below meth c H locs CE SE Q (F0 m 60 ls [])), W p l e R_X1_digest s m A below meth c H locs cl sl Q (F0 m 6 ls []) := by
    intro n
    induction n with
    | zero => intro v1 v2 w19 hk0 cl sl hcl hsl H locs hS hF h_x0 h_x0r0 h_x0r1 h_x0r2 ls hl K60; exact lp_zero hk0
    | succ n ih =>
      intro v1 v2 w19 hk0 cl sl hcl hsl H locs hS hF h_x0 h_x0r0 h_x0r1 h_x0r2 ls hl K60
      obtain ⟨z20, hz, hk⟩ := lp_step hk0
      have h := (congrFun (congrFun (eF18) v1) v2).symm.trans hz
      have hcO : cl + 12 ≤ CE := al_out hcl
      have hcE : cl + 12 ≤ R_X1_digest.cells := Nat.le_trans hcO hCE
      have hcN : ∀ a, a ≤ 12 → cl + a + 12 * n ≤ CE := fun a ha => al_next hcl ha
      have hcN0 : cl + 12 * n ≤ CE := al_next hcl (Nat.zero_le _)
      have hsO : sl + 170 ≤ SE := al_out hsl
      have hsE : sl + 170 ≤ R_X1_digest.slots := Nat.le_trans hsO hSE
      have hsN : ∀ a, a ≤ 170 → sl + a + 170 * n ≤ SE := fun a ha => al_next hsl ha
      have hsN0 : sl + 170 * n ≤ SE := al_next hsl (Nat.zero_le _)
      clear hcl hsl
      refine lv_iload_n hx hb dX1_digest_6 rfl (lv_at hl 2 rfl) ?_
      refine lv_bipush (v := 8) hx hb dX1_digest_7 (by decide) ?_
      refine lv_icmp_ge (tgt := 60) hx hb dX1_digest_9 (by decide) (fun c21 => ?_) (fun c21 => ?_)
      · have h := it_pos h c21
        obtain rfl := Option.some.inj h
        obtain rfl := id hk
        refine W.widen (k := CE) (n := SE) (by omega) (by omega) ?_
        exact K60 H locs hS hF h_x0 h_x0r0 h_x0r1 h_x0r2 ls (lv_sub hl [0, 1] rfl)
      · have h := it_neg h c21
        refine lv_lload_n hx hb dX1_digest_12 rfl (lv_at hl 1 rfl) ?_
        refine lv_aload_n hx hb dX1_digest_13 rfl (lv_at hl 0 rfl) ?_
        refine lv_iload_n hx hb dX1_digest_14 rfl (lv_at hl 2 rfl) ?_
        obtain ⟨o22, eo22, h⟩ := bind_step h
        refine r_cp (r_runV (rest := [.long v1]) (As := [.int v2]) hC 1 (m_X1_angleUpper x0 x0r0 x0r1 x0r2  x0r0c x0r1c x0r2c x0f3 x0f4 x0f5 x0f6 v2 o22 eo22) q1261 q1191 q1192 q46 q1193 (OA.recv hS h_x0.OA (C := RX1) rfl) hd_X1_angleUpper rfl ⟨Nat.le_of_ble_eq_true rfl, Nat.le_of_ble_eq_true rfl⟩ hS ⟨h_x0, h_x0r0, h_x0r1, h_x0r2⟩ hl.1 rfl (Nat.le_of_ble_eq_true rfl) dX1_digest_15 ⟨by have := hcE; have := hsE; omega, by have := hcE; have := hsE; omega⟩) ?_
        obtain ⟨v23, ev23, h⟩ := ltl_step h
        refine r_i2l hx hb ev23 dX1_digest_18 ?_
        obtain ⟨o24, eo24, h⟩ := bind_step h
        refine r_cp (r_runS (rest := []) (As := [.long v1, .long v23]) hC 2 (m_X1_add   v1 v23 o24 eo24) q1262 q1263 q46 q1264 hd_X1_add rfl ⟨Nat.le_of_ble_eq_true rfl, Nat.le_of_ble_eq_true rfl⟩ hS trivial hl.1 rfl (Nat.le_of_ble_eq_true rfl) dX1_digest_19 ⟨by have := hcE; have := hsE; omega, by have := hcE; have := hsE; omega⟩) ?_
        refine lv_aload_n hx hb dX1_digest_22 rfl (lv_at hl 0 rfl) ?_
        refine lv_iload_n hx hb dX1_digest_23 rfl (lv_at hl 2 rfl) ?_
        refine lv_iconst (v := 0) hx hb dX1_digest_24 (by decide) ?_
        obtain ⟨o25, eo25, h⟩ := bind_step h
        refine r_cp (r_runV (rest := [.long o24]) (As := [.int v2, .int 0]) hC 2 (m_X1_angleFind x0 x0r0 x0r1 x0r2  x0r0c x0r1c x0r2c x0f3 x0f4 x0f5 x0f6 v2 false o25 eo25) q1266 q1267 q1268 q46 q1269 (OA.recv hS h_x0.OA (C := RX1) rfl) hd_X1_angleFind rfl ⟨Nat.le_of_ble_eq_true rfl, Nat.le_of_ble_eq_true rfl⟩ hS ⟨h_x0, h_x0r0, h_x0r1, h_x0r2⟩ hl.1 rfl (Nat.le_of_ble_eq_true rfl) dX1_digest_25 ⟨by have := hcE; have := hsE; omega, by have := hcE; have := hsE; omega⟩) ?_
        obtain ⟨v26, ev26, h⟩ := ltl_step h
        refine r_i2l hx hb ev26 dX1_digest_28 ?_
        obtain ⟨o27, eo27, h⟩ := bind_step h
        refine r_cp (r_runS (rest := []) (As := [.long o24, .long v26]) hC 2 (m_X1_add   o24 v26 o27 eo27) q1262 q1263 q46 q1264 hd_X1_add rfl ⟨Nat.le_of_ble_eq_true rfl, Nat.le_of_ble_eq_true rfl⟩ hS trivial hl.1 rfl (Nat.le_of_ble_eq_true rfl) dX1_digest_29 ⟨by have := hcE; have := hsE; omega, by have := hcE; have := hsE; omega⟩) ?_
        refine lv_lstore_n (lv' := [(1, .long o27), (0, .ref x0), (3, .int v2)]) hx hb dX1_digest_32 rfl hl (by decide) rfl (fun ls hl => ?_)
        refine lv_lload_n hx hb dX1_digest_33 rfl (lv_at hl 0 rfl) ?_
        refine lv_aload_n hx hb dX1_digest_34 rfl (lv_at hl 1 rfl) ?_
        refine lv_iload_n hx hb dX1_digest_35 rfl (lv_at hl 2 rfl) ?_
        refine lv_iconst (v := 1) hx hb dX1_digest_36 (by decide) ?_
        obtain ⟨o28, eo28, h⟩ := bind_step h
        refine r_cp (r_runV (rest := [.long o27]) (As := [.int v2, .int 1]) hC 2 (m_X1_angleFind x0 x0r0 x0r1 x0r2  x0r0c x0r1c x0r2c x0f3 x0f4 x0f5 x0f6 v2 true o28 eo28) q1266 q1267 q1268 q46 q1269 (OA.recv hS h_x0.OA (C := RX1) rfl) hd_X1_angleFind rfl ⟨Nat.le_of_ble_eq_true rfl, Nat.le_of_ble_eq_true rfl⟩ hS ⟨h_x0, h_x0r0, h_x0r1, h_x0r2⟩ hl.1 rfl (Nat.le_of_ble_eq_true rfl) dX1_digest_37 ⟨by have := hcE; have := hsE; omega, by have := hcE; have := hsE; omega⟩) ?_
        obtain ⟨v29, ev29, h⟩ := ltl_step h
        refine r_i2l hx hb ev29 dX1_digest_40 ?_
        obtain ⟨o30, eo30, h⟩ := bind_step h
        refine r_cp (r_runS (rest := []) (As := [.long o27, .long v29]) hC 2 (m_X1_add   o27 v29 o30 eo30) q1262 q1263 q46 q1264 hd_X1_add rfl ⟨Nat.le_of_ble_eq_true rfl, Nat.le_of_ble_eq_true rfl⟩ hS trivial hl.1 rfl (Nat.le_of_ble_eq_true rfl) dX1_digest_41 ⟨by have := hcE; have := hsE; omega, by have := hcE; have := hsE; omega⟩) ?_
        refine lv_aload_n hx hb dX1_digest_44 rfl (lv_at hl 1 rfl) ?_
        refine lv_iload_n hx hb dX1_digest_45 rfl (lv_at hl 2 rfl) ?_
        obtain ⟨o31, eo31, h⟩ := bind_step h
        refine r_ci (r_runV (rest := [.long o30]) (As := [.int v2]) hC 1 (m_X1_quarter x0 x0r0 x0r1 x0r2  x0r0c x0r1c x0r2c x0f3 x0f4 x0f5 x0f6 v2 o31 eo31) q1276 q1277 q1278 q46 q1279 (OA.recv hS h_x0.OA (C := RX1) rfl) hd_X1_quarter rfl ⟨Nat.le_of_ble_eq_true rfl, Nat.le_of_ble_eq_true rfl⟩ hS ⟨h_x0, h_x0r0, h_x0r1, h_x0r2⟩ hl.1 rfl (Nat.le_of_ble_eq_true rfl) dX1_digest_46 ⟨by have := hcE; have := hsE; omega, by have := hcE; have := hsE; omega⟩) hS (fun b H locs hp hS hz => ?_)
        obtain ⟨eb_, hO⟩ := hp
        rw [eb_]
        have h_x0 := h_x0.ext hO
        have h_x0r0 := h_x0r0.ext hO
        have h_x0r1 := h_x0r1.ext hO
        have h_x0r2 := h_x0r2.ext hO
        have hF := hF.trans (hO.mono (fun _ _ z => z.elim))
        obtain ⟨v32, ev32, h⟩ := ltl_step h
        refine r_i2l hx hb ev32 dX1_digest_49 ?_
        obtain ⟨o33, eo33, h⟩ := bind_step h
        refine r_cp (r_runS (rest := []) (As := [.long o30, .long v32]) hC 2 (m_X1_add   o30 v32 o33 eo33) q1262 q1263 q46 q1264 hd_X1_add rfl ⟨Nat.le_of_ble_eq_true rfl, Nat.le_of_ble_eq_true rfl⟩ hS trivial hl.1 rfl (Nat.le_of_ble_eq_true rfl) dX1_digest_50 ⟨by have := hcE; have := hsE; omega, by have := hcE; have := hsE; omega⟩) ?_
        refine lv_lstore_n (lv' := [(1, .long o33), (0, .ref x0), (3, .int v2)]) hx hb dX1_digest_53 rfl hl (by decide) rfl (fun ls hl => ?_)
        obtain ⟨v34, ev34, h⟩ := lti_step h
        refine lv_iinc (v := v34) (lv' := [(3, .int v34), (1, .long o33), (0, .ref x0)]) hx hb dX1_digest_54 hl (k := 2) rfl (by rw [ev34]; rfl) (by decide) rfl (fun ls hl => ?_)
        refine lv_goto (tgt := 6) hx hb dX1_digest_57 (by decide) ?_
        obtain rfl := Option.some.inj h
        exact ih o33 v34 w19 hk _ _ (hcN 12 (Nat.le_of_ble_eq_true rfl)) (hsN 170 (Nat.le_of_ble_eq_true rfl)) H locs hS hF h_x0 h_x0r0 h_x0r1 h_x0r2 ls (lv_sub hl [2, 1, 0] rfl) K60
  clear eF18
  refine HL 9 7675 0 w19 ew19 _ _ (Nat.le_of_eq eCE.symm) (Nat.le_of_eq eSE.symm) H locs hS hF h_x0 h_x0r0 h_x0r1 h_x0r2 ls (lv_sub hl [2, 1, 0] rfl) (fun  H locs hS hF h_x0 h_x0r0 h_x0r1 h_x0r2 ls hl => ?_)
  rw [eCE, eSE]
  refine lv_iconst (v := 0) hx hb dX1_digest_60 (by decide) ?_
  refine lv_istore_n (lv' := [(3, .int 0), (0, .ref x0), (1, .long w19)]) hx hb dX1_digest_61 rfl hl (by decide) rfl (fun ls hl => ?_)
  obtain ⟨F55, eF55, h⟩ := lt_step h
  obtain ⟨w56, ew56, h⟩ := bind_step h
  obtain ⟨CE, eCE⟩ : ∃ x : Nat, x = 108 + 126 := ⟨_, rfl⟩
  obtain ⟨SE, eSE⟩ : ∃ x : Nat, x = 1530 + 1008 := ⟨_, rfl⟩
  have hCE : CE ≤ R_X1_digest.cells := (by rw [eCE]; exact Nat.le_of_ble_eq_true rfl)
  have hSE : SE ≤ R_X1_digest.slots := (by rw [eSE]; exact Nat.le_of_ble_eq_true rfl)
  have HL : ∀ (n : Nat) (v35 : Int64) (v36 : Int32) (w56 : Int64) (hk0 : lp n (fun x => F55 x.1 x.2) (v35, v36) = some w56) (cl : Nat) (sl : Nat) (hcl : cl + 14 * n ≤ CE) (hsl : sl + 112 * n ≤ SE) (H : Heap) (locs : List Loc) (hS : St D s H locs) (hF : Off (fun _ => False) s.heap H) (h_x0 : ON D 0 x0 [.ref x0r0, .ref x0r1, .ref x0r2, .int x0f3, .int x0f4, .int x0f5, .int x0f6] H) (h_x0r0 : aD D x0r0 8 x0r0c H) (h_x0r1 : aD D x0r1 8 x0r1c H) (h_x0r2 : aZ D x0r2 8 x0r2c H) (ls : Array Slot) (hl : lv_has ls 5 [(0, .ref x0), (1, .long v35), (3, .int v36)]) (K127 : ∀ (H : Heap) (locs : List Loc) (hS : St D s H locs) (hF : Off (fun _ => False) s.heap H) (h_x0 : ON D 0 x0 [.ref x0r0, .ref x0r1, .ref x0r2, .int x0f3, .int x0f4, .int x0f5, .int x0f6] H) (h_x0r0 : aD D x0r0 8 x0r0c H) (h_x0r1 : aD D x0r1 8 x0r1c H) (h_x0r2 : aZ D x0r2 8 x0r2c H) (ls : Array Slot) (hl : lv_has ls 5 [(0, .ref x0), (1, .long w56)]), W p l e R_X1_digest s m A below meth c H locs CE SE Q (F0 m 127 ls [])), W p l e R_X1_digest s m A below meth c H locs cl sl Q (F0 m 62 ls []) := by
    intro n
    induction n with
    | zero => intro v35 v36 w56 hk0 cl sl hcl hsl H locs hS hF h_x0 h_x0r0 h_x0r1 h_x0r2 ls hl K127; exact lp_zero hk0
    | succ n ih =>
      intro v35 v36 w56 hk0 cl sl hcl hsl H locs hS hF h_x0 h_x0r0 h_x0r1 h_x0r2 ls hl K127
      obtain ⟨z57, hz, hk⟩ := lp_step hk0
      have h := (congrFun (congrFun (eF55) v35) v36).symm.trans hz
      have hcO : cl + 14 ≤ CE := al_out hcl
      have hcE : cl + 14 ≤ R_X1_digest.cells := Nat.le_trans hcO hCE
      have hcN : ∀ a, a ≤ 14 → cl + a + 14 * n ≤ CE := fun a ha => al_next hcl ha
      have hcN0 : cl + 14 * n ≤ CE := al_next hcl (Nat.zero_le _)
      have hsO : sl + 112 ≤ SE := al_out hsl
      have hsE : sl + 112 ≤ R_X1_digest.slots := Nat.le_trans hsO hSE
      have hsN : ∀ a, a ≤ 112 → sl + a + 112 * n ≤ SE := fun a ha => al_next hsl ha
      have hsN0 : sl + 112 * n ≤ SE := al_next hsl (Nat.zero_le _)
      clear hcl hsl
      refine lv_iload_n hx hb dX1_digest_62 rfl (lv_at hl 2 rfl) ?_
      refine lv_bipush (v := 8) hx hb dX1_digest_63 (by decide) ?_
      refine lv_icmp_ge (tgt := 127) hx hb dX1_digest_65 (by decide) (fun c58 => ?_) (fun c58 => ?_)
      · have h := it_pos h c58
        obtain rfl := Option.some.inj h
        obtain rfl := id hk
        refine W.widen (k := CE) (n := SE) (by omega) (by omega) ?_
        exact K127 H locs hS hF h_x0 h_x0r0 h_x0r1 h_x0r2 ls (lv_sub hl [0, 1] rfl)
      · have h := it_neg h c58
        refine lv_lload_n hx hb dX1_digest_68 rfl (lv_at hl 1 rfl) ?_
        refine lv_aload_n hx hb dX1_digest_69 rfl (lv_at hl 0 rfl) ?_
        refine lv_iload_n hx hb dX1_digest_70 rfl (lv_at hl 2 rfl) ?_
        obtain ⟨o59, eo59, h⟩ := bind_step h
        refine r_ci (r_runV (rest := [.long v35]) (As := [.int v36]) hC 1 (m_X1_whole x0 x0r0 x0r1 x0r2  x0r0c x0r1c x0r2c x0f3 x0f4 x0f5 x0f6 v36 o59 eo59) q1280 q1199 q1200 q46 q1201 (OA.recv hS h_x0.OA (C := RX1) rfl) hd_X1_whole rfl ⟨Nat.le_of_ble_eq_true rfl, Nat.le_of_ble_eq_true rfl⟩ hS ⟨h_x0, h_x0r0, h_x0r1, h_x0r2⟩ hl.1 rfl (Nat.le_of_ble_eq_true rfl) dX1_digest_71 ⟨by have := hcE; have := hsE; omega, by have := hcE; have := hsE; omega⟩) hS (fun b H locs hp hS hz => ?_)
        obtain ⟨eb_, hO⟩ := hp
        rw [eb_]
        have h_x0 := h_x0.ext hO
        have h_x0r0 := h_x0r0.ext hO
        have h_x0r1 := h_x0r1.ext hO
        have h_x0r2 := h_x0r2.ext hO
        have hF := hF.trans (hO.mono (fun _ _ z => z.elim))
        obtain ⟨v60, ev60, h⟩ := ltl_step h
        refine r_i2l hx hb ev60 dX1_digest_74 ?_
        obtain ⟨o61, eo61, h⟩ := bind_step h
        refine r_cp (r_runS (rest := []) (As := [.long v35, .long v60]) hC 2 (m_X1_add   v35 v60 o61 eo61) q1262 q1263 q46 q1264 hd_X1_add rfl ⟨Nat.le_of_ble_eq_true rfl, Nat.le_of_ble_eq_true rfl⟩ hS trivial hl.1 rfl (Nat.le_of_ble_eq_true rfl) dX1_digest_75 ⟨by have := hcE; have := hsE; omega, by have := hcE; have := hsE; omega⟩) ?_
        refine lv_aload_n hx hb dX1_digest_78 rfl (lv_at hl 0 rfl) ?_
        refine lv_iload_n hx hb dX1_digest_79 rfl (lv_at hl 2 rfl) ?_
        refine lv_bipush (v := 30) hx hb dX1_digest_80 (by decide) ?_
        obtain ⟨o62, eo62, h⟩ := bind_step h
        refine r_ci (r_runV (rest := [.long o61]) (As := [.int v36, .int 30]) hC 2 (m_X1_steps x0 x0r0 x0r1 x0r2  x0r0c x0r1c x0r2c x0f3 x0f4 x0f5 x0f6 v36 30 o62 eo62) q1281 q1227 q1228 q46 q1229 (OA.recv hS h_x0.OA (C := RX1) rfl) hd_X1_steps rfl ⟨Nat.le_of_ble_eq_true rfl, Nat.le_of_ble_eq_true rfl⟩ hS ⟨h_x0, h_x0r0, h_x0r1, h_x0r2⟩ hl.1 rfl (Nat.le_of_ble_eq_true rfl) dX1_digest_82 ⟨by have := hcE; have := hsE; omega, by have := hcE; have := hsE; omega⟩) hS (fun b H locs hp hS hz => ?_)
        obtain ⟨eb_, hO⟩ := hp
        rw [eb_]
        have h_x0 := h_x0.ext hO
        have h_x0r0 := h_x0r0.ext hO
        have h_x0r1 := h_x0r1.ext hO
        have h_x0r2 := h_x0r2.ext hO
        have hF := hF.trans (hO.mono (fun _ _ z => z.elim))
        obtain ⟨v63, ev63, h⟩ := ltl_step h
        refine r_i2l hx hb ev63 dX1_digest_85 ?_
        obtain ⟨o64, eo64, h⟩ := bind_step h
        refine r_cp (r_runS (rest := []) (As := [.long o61, .long v63]) hC 2 (m_X1_add   o61 v63 o64 eo64) q1262 q1263 q46 q1264 hd_X1_add rfl ⟨Nat.le_of_ble_eq_true rfl, Nat.le_of_ble_eq_true rfl⟩ hS trivial hl.1 rfl (Nat.le_of_ble_eq_true rfl) dX1_digest_86 ⟨by have := hcE; have := hsE; omega, by have := hcE; have := hsE; omega⟩) ?_
        refine lv_aload_n hx hb dX1_digest_89 rfl (lv_at hl 0 rfl) ?_
        refine lv_iload_n hx hb dX1_digest_90 rfl (lv_at hl 2 rfl) ?_
        obtain ⟨o65, eo65, h⟩ := bind_step h
        refine r_cp (r_runV (rest := [.long o64]) (As := [.int v36]) hC 1 (m_X1_upper x0 x0r0 x0r1 x0r2  x0r0c x0r1c x0r2c x0f3 x0f4 x0f5 x0f6 v36 o65 eo65) q1282 q1241 q1242 q46 q1243 (OA.recv hS h_x0.OA (C := RX1) rfl) hd_X1_upper rfl ⟨Nat.le_of_ble_eq_true rfl, Nat.le_of_ble_eq_true rfl⟩ hS ⟨h_x0, h_x0r0, h_x0r1, h_x0r2⟩ hl.1 rfl (Nat.le_of_ble_eq_true rfl) dX1_digest_91 ⟨by have := hcE; have := hsE; omega, by have := hcE; have := hsE; omega⟩) ?_
        obtain ⟨v66, ev66, h⟩ := ltl_step h
        refine r_i2l hx hb ev66 dX1_digest_94 ?_
        obtain ⟨o67, eo67, h⟩ := bind_step h
        refine r_cp (r_runS (rest := []) (As := [.long o64, .long v66]) hC 2 (m_X1_add   o64 v66 o67 eo67) q1262 q1263 q46 q1264 hd_X1_add rfl ⟨Nat.le_of_ble_eq_true rfl, Nat.le_of_ble_eq_true rfl⟩ hS trivial hl.1 rfl (Nat.le_of_ble_eq_true rfl) dX1_digest_95 ⟨by have := hcE; have := hsE; omega, by have := hcE; have := hsE; omega⟩) ?_
        refine lv_lstore_n (lv' := [(1, .long o67), (0, .ref x0), (3, .int v36)]) hx hb dX1_digest_98 rfl hl (by decide) rfl (fun ls hl => ?_)
        refine lv_lload_n hx hb dX1_digest_99 rfl (lv_at hl 0 rfl) ?_
        refine lv_aload_n hx hb dX1_digest_100 rfl (lv_at hl 1 rfl) ?_
        refine lv_iload_n hx hb dX1_digest_101 rfl (lv_at hl 2 rfl) ?_
        refine lv_iconst (v := 0) hx hb dX1_digest_102 (by decide) ?_
        obtain ⟨o68, eo68, h⟩ := bind_step h
        refine r_cp (r_runV (rest := [.long o67]) (As := [.int v36, .int 0]) hC 2 (m_X1_heightFind x0 x0r0 x0r1 x0r2  x0r0c x0r1c x0r2c x0f3 x0f4 x0f5 x0f6 v36 false o68 eo68) q1283 q1284 q1285 q46 q1286 (OA.recv hS h_x0.OA (C := RX1) rfl) hd_X1_heightFind rfl ⟨Nat.le_of_ble_eq_true rfl, Nat.le_of_ble_eq_true rfl⟩ hS ⟨h_x0, h_x0r0, h_x0r1, h_x0r2⟩ hl.1 rfl (Nat.le_of_ble_eq_true rfl) dX1_digest_103 ⟨by have := hcE; have := hsE; omega, by have := hcE; have := hsE; omega⟩) ?_
        obtain ⟨v69, ev69, h⟩ := ltl_step h
        refine r_i2l hx hb ev69 dX1_digest_106 ?_
        obtain ⟨o70, eo70, h⟩ := bind_step h
        refine r_cp (r_runS (rest := []) (As := [.long o67, .long v69]) hC 2 (m_X1_add   o67 v69 o70 eo70) q1262 q1263 q46 q1264 hd_X1_add rfl ⟨Nat.le_of_ble_eq_true rfl, Nat.le_of_ble_eq_true rfl⟩ hS trivial hl.1 rfl (Nat.le_of_ble_eq_true rfl) dX1_digest_107 ⟨by have := hcE; have := hsE; omega, by have := hcE; have := hsE; omega⟩) ?_
        refine lv_aload_n hx hb dX1_digest_110 rfl (lv_at hl 1 rfl) ?_
        refine lv_iload_n hx hb dX1_digest_111 rfl (lv_at hl 2 rfl) ?_
        refine lv_iconst (v := 1) hx hb dX1_digest_112 (by decide) ?_
        obtain ⟨o71, eo71, h⟩ := bind_step h
        refine r_cp (r_runV (rest := [.long o70]) (As := [.int v36, .int 1]) hC 2 (m_X1_heightFind x0 x0r0 x0r1 x0r2  x0r0c x0r1c x0r2c x0f3 x0f4 x0f5 x0f6 v36 true o71 eo71) q1283 q1284 q1285 q46 q1286 (OA.recv hS h_x0.OA (C := RX1) rfl) hd_X1_heightFind rfl ⟨Nat.le_of_ble_eq_true rfl, Nat.le_of_ble_eq_true rfl⟩ hS ⟨h_x0, h_x0r0, h_x0r1, h_x0r2⟩ hl.1 rfl (Nat.le_of_ble_eq_true rfl) dX1_digest_113 ⟨by have := hcE; have := hsE; omega, by have := hcE; have := hsE; omega⟩) ?_
        obtain ⟨v72, ev72, h⟩ := ltl_step h
        refine r_i2l hx hb ev72 dX1_digest_116 ?_
        obtain ⟨o73, eo73, h⟩ := bind_step h
        refine r_cp (r_runS (rest := []) (As := [.long o70, .long v72]) hC 2 (m_X1_add   o70 v72 o73 eo73) q1262 q1263 q46 q1264 hd_X1_add rfl ⟨Nat.le_of_ble_eq_true rfl, Nat.le_of_ble_eq_true rfl⟩ hS trivial hl.1 rfl (Nat.le_of_ble_eq_true rfl) dX1_digest_117 ⟨by have := hcE; have := hsE; omega, by have := hcE; have := hsE; omega⟩) ?_
        refine lv_lstore_n (lv' := [(1, .long o73), (0, .ref x0), (3, .int v36)]) hx hb dX1_digest_120 rfl hl (by decide) rfl (fun ls hl => ?_)
        obtain ⟨v74, ev74, h⟩ := lti_step h
        refine lv_iinc (v := v74) (lv' := [(3, .int v74), (1, .long o73), (0, .ref x0)]) hx hb dX1_digest_121 hl (k := 2) rfl (by rw [ev74]; rfl) (by decide) rfl (fun ls hl => ?_)
        refine lv_goto (tgt := 62) hx hb dX1_digest_124 (by decide) ?_
        obtain rfl := Option.some.inj h
        exact ih o73 v74 w56 hk _ _ (hcN 14 (Nat.le_of_ble_eq_true rfl)) (hsN 112 (Nat.le_of_ble_eq_true rfl)) H locs hS hF h_x0 h_x0r0 h_x0r1 h_x0r2 ls (lv_sub hl [2, 1, 0] rfl) K127
  clear eF55
  refine HL 9 w19 0 w56 ew56 _ _ (Nat.le_of_eq eCE.symm) (Nat.le_of_eq eSE.symm) H locs hS hF h_x0 h_x0r0 h_x0r1 h_x0r2 ls (lv_sub hl [1, 2, 0] rfl) (fun  H locs hS hF h_x0 h_x0r0 h_x0r1 h_x0r2 ls hl => ?_)
  rw [eCE, eSE]
  refine lv_iconst (v := 0) hx hb dX1_digest_127 (by decide) ?_
  refine lv_istore_n (lv' := [(3, .int 0), (0, .ref x0), (1, .long w56)]) hx hb dX1_digest_128 rfl hl (by decide) rfl (fun ls hl => ?_)
  obtain ⟨F92, eF92, h⟩ := lt_step h
  obtain ⟨w93, ew93, h⟩ := bind_step h
  obtain ⟨CE, eCE⟩ : ∃ x : Nat, x = 234 + 324 := ⟨_, rfl⟩
  obtain ⟨SE, eSE⟩ : ∃ x : Nat, x = 2538 + 324 := ⟨_, rfl⟩
  have hCE : CE ≤ R_X1_digest.cells := (by rw [eCE]; exact Nat.le_of_ble_eq_true rfl)
  have hSE : SE ≤ R_X1_digest.slots := (by rw [eSE]; exact Nat.le_of_ble_eq_true rfl)
  have HL : ∀ (n : Nat) (v75 : Int64) (v76 : Int32) (w93 : Int64) (hk0 : lp n (fun x => F92 x.1 x.2) (v75, v76) = some w93) (cl : Nat) (sl : Nat) (hcl : cl + 36 * n ≤ CE) (hsl : sl + 36 * n ≤ SE) (H : Heap) (locs : List Loc) (hS : St D s H locs) (hF : Off (fun _ => False) s.heap H) (h_x0 : ON D 0 x0 [.ref x0r0, .ref x0r1, .ref x0r2, .int x0f3, .int x0f4, .int x0f5, .int x0f6] H) (h_x0r0 : aD D x0r0 8 x0r0c H) (h_x0r1 : aD D x0r1 8 x0r1c H) (h_x0r2 : aZ D x0r2 8 x0r2c H) (ls : Array Slot) (hl : lv_has ls 5 [(0, .ref x0), (1, .long v75), (3, .int v76)]) (K184 : ∀ (H : Heap) (locs : List Loc) (hS : St D s H locs) (hF : Off (fun _ => False) s.heap H) (h_x0 : ON D 0 x0 [.ref x0r0, .ref x0r1, .ref x0r2, .int x0f3, .int x0f4, .int x0f5, .int x0f6] H) (h_x0r0 : aD D x0r0 8 x0r0c H) (h_x0r1 : aD D x0r1 8 x0r1c H) (h_x0r2 : aZ D x0r2 8 x0r2c H) (ls : Array Slot) (hl : lv_has ls 5 [(0, .ref x0), (1, .long w93)]), W p l e R_X1_digest s m A below meth c H locs CE SE Q (F0 m 184 ls [])), W p l e R_X1_digest s m A below meth c H locs cl sl Q (F0 m 129 ls []) := by
    intro n
    induction n with
    | zero => intro v75 v76 w93 hk0 cl sl hcl hsl H locs hS hF h_x0 h_x0r0 h_x0r1 h_x0r2 ls hl K184; exact lp_zero hk0
    | succ n ih =>
      intro v75 v76 w93 hk0 cl sl hcl hsl H locs hS hF h_x0 h_x0r0 h_x0r1 h_x0r2 ls hl K184
      obtain ⟨z94, hz, hk⟩ := lp_step hk0
      have h := (congrFun (congrFun (eF92) v75) v76).symm.trans hz
      have hcO : cl + 36 ≤ CE := al_out hcl
      have hcE : cl + 36 ≤ R_X1_digest.cells := Nat.le_trans hcO hCE
      have hcN : ∀ a, a ≤ 36 → cl + a + 36 * n ≤ CE := fun a ha => al_next hcl ha
      have hcN0 : cl + 36 * n ≤ CE := al_next hcl (Nat.zero_le _)
      have hsO : sl + 36 ≤ SE := al_out hsl
      have hsE : sl + 36 ≤ R_X1_digest.slots := Nat.le_trans hsO hSE
      have hsN : ∀ a, a ≤ 36 → sl + a + 36 * n ≤ SE := fun a ha => al_next hsl ha
      have hsN0 : sl + 36 * n ≤ SE := al_next hsl (Nat.zero_le _)
      clear hcl hsl
      refine lv_iload_n hx hb dX1_digest_129 rfl (lv_at hl 2 rfl) ?_
      refine lv_bipush (v := 8) hx hb dX1_digest_130 (by decide) ?_
      refine lv_icmp_ge (tgt := 184) hx hb dX1_digest_132 (by decide) (fun c95 => ?_) (fun c95 => ?_)
      · have h := it_pos h c95
        obtain rfl := Option.some.inj h
        obtain rfl := id hk
        refine W.widen (k := CE) (n := SE) (by omega) (by omega) ?_
        exact K184 H locs hS hF h_x0 h_x0r0 h_x0r1 h_x0r2 ls (lv_sub hl [0, 1] rfl)
      · have h := it_neg h c95
        refine lv_iload_n hx hb dX1_digest_135 rfl (lv_at hl 2 rfl) ?_
        refine lv_iconst (v := 1) hx hb dX1_digest_136 (by decide) ?_
        obtain ⟨v96, ev96, h⟩ := lti_step h
        refine r_iadd hx hb ev96 dX1_digest_137 ?_
        refine lv_istore (lv' := [(4, .int v96), (0, .ref x0), (1, .long v75), (3, .int v76)]) hx hb dX1_digest_138 hl (by decide) rfl (fun ls hl => ?_)
        obtain ⟨F108, eF108, h⟩ := lt_step h
        obtain ⟨w109, ew109, h⟩ := bind_step h
        obtain ⟨CE, eCE⟩ : ∃ x : Nat, x = cl + 36 := ⟨_, rfl⟩
        obtain ⟨SE, eSE⟩ : ∃ x : Nat, x = sl + 36 := ⟨_, rfl⟩
        have hCE : CE ≤ R_X1_digest.cells := (by have := hcE; omega)
        have hSE : SE ≤ R_X1_digest.slots := (by have := hsE; omega)
        have HL : ∀ (n : Nat) (v97 : Int64) (v98 : Int32) (w109 : Int64) (hk0 : lp n (fun x => F108 x.1 x.2) (v97, v98) = some w109) (cl : Nat) (sl : Nat) (hcl : cl + 4 * n ≤ CE) (hsl : sl + 4 * n ≤ SE) (H : Heap) (locs : List Loc) (hS : St D s H locs) (hF : Off (fun _ => False) s.heap H) (h_x0 : ON D 0 x0 [.ref x0r0, .ref x0r1, .ref x0r2, .int x0f3, .int x0f4, .int x0f5, .int x0f6] H) (h_x0r0 : aD D x0r0 8 x0r0c H) (h_x0r1 : aD D x0r1 8 x0r1c H) (h_x0r2 : aZ D x0r2 8 x0r2c H) (ls : Array Slot) (hl : lv_has ls 5 [(0, .ref x0), (1, .long v97), (3, .int v76), (4, .int v98)]) (K178 : ∀ (H : Heap) (locs : List Loc) (hS : St D s H locs) (hF : Off (fun _ => False) s.heap H) (h_x0 : ON D 0 x0 [.ref x0r0, .ref x0r1, .ref x0r2, .int x0f3, .int x0f4, .int x0f5, .int x0f6] H) (h_x0r0 : aD D x0r0 8 x0r0c H) (h_x0r1 : aD D x0r1 8 x0r1c H) (h_x0r2 : aZ D x0r2 8 x0r2c H) (ls : Array Slot) (hl : lv_has ls 5 [(0, .ref x0), (1, .long w109), (3, .int v76)]), W p l e R_X1_digest s m A below meth c H locs CE SE Q (F0 m 178 ls [])), W p l e R_X1_digest s m A below meth c H locs cl sl Q (F0 m 140 ls []) := by
          intro n
          induction n with
          | zero => intro v97 v98 w109 hk0 cl sl hcl hsl H locs hS hF h_x0 h_x0r0 h_x0r1 h_x0r2 ls hl K178; exact lp_zero hk0
          | succ n ih =>
            intro v97 v98 w109 hk0 cl sl hcl hsl H locs hS hF h_x0 h_x0r0 h_x0r1 h_x0r2 ls hl K178
            obtain ⟨z110, hz, hk⟩ := lp_step hk0
            have h := (congrFun (congrFun (eF108) v97) v98).symm.trans hz
            have hcO : cl + 4 ≤ CE := al_out hcl
            have hcE : cl + 4 ≤ R_X1_digest.cells := Nat.le_trans hcO hCE
            have hcN : ∀ a, a ≤ 4 → cl + a + 4 * n ≤ CE := fun a ha => al_next hcl ha
            have hcN0 : cl + 4 * n ≤ CE := al_next hcl (Nat.zero_le _)
            have hsO : sl + 4 ≤ SE := al_out hsl
            have hsE : sl + 4 ≤ R_X1_digest.slots := Nat.le_trans hsO hSE
            have hsN : ∀ a, a ≤ 4 → sl + a + 4 * n ≤ SE := fun a ha => al_next hsl ha
            have hsN0 : sl + 4 * n ≤ SE := al_next hsl (Nat.zero_le _)
            clear hcl hsl
            refine lv_iload hx hb dX1_digest_140 (lv_at hl 3 rfl) ?_
            refine lv_bipush (v := 8) hx hb dX1_digest_142 (by decide) ?_
            refine lv_icmp_ge (tgt := 178) hx hb dX1_digest_144 (by decide) (fun c111 => ?_) (fun c111 => ?_)
            · have h := it_pos h c111
              obtain rfl := Option.some.inj h
              obtain rfl := id hk
              refine W.widen (k := CE) (n := SE) (by omega) (by omega) ?_
              exact K178 H locs hS hF h_x0 h_x0r0 h_x0r1 h_x0r2 ls (lv_sub hl [0, 1, 2] rfl)
            · have h := it_neg h c111
              refine lv_lload_n hx hb dX1_digest_147 rfl (lv_at hl 1 rfl) ?_
              refine lv_aload_n hx hb dX1_digest_148 rfl (lv_at hl 0 rfl) ?_
              refine lv_iload_n hx hb dX1_digest_149 rfl (lv_at hl 2 rfl) ?_
              refine lv_iload hx hb dX1_digest_150 (lv_at hl 3 rfl) ?_
              refine lv_iconst (v := 0) hx hb dX1_digest_152 (by decide) ?_
              obtain ⟨o112, eo112, h⟩ := bind_step h
              refine r_ci (r_runV (rest := [.long v97]) (As := [.int v76, .int v98, .int 0]) hC 3 (m_X1_heightOrder x0 x0r0 x0r1 x0r2  x0r0c x0r1c x0r2c x0f3 x0f4 x0f5 x0f6 v76 v98 0 o112 eo112) q1287 q1288 q1289 q46 q1290 (OA.recv hS h_x0.OA (C := RX1) rfl) hd_X1_heightOrder rfl ⟨Nat.le_of_ble_eq_true rfl, Nat.le_of_ble_eq_true rfl⟩ hS ⟨h_x0, h_x0r0, h_x0r1, h_x0r2⟩ hl.1 rfl (Nat.le_of_ble_eq_true rfl) dX1_digest_153 ⟨by have := hcE; have := hsE; omega, by have := hcE; have := hsE; omega⟩) hS (fun b H locs hp hS hz => ?_)
              obtain ⟨eb_, hO⟩ := hp
              rw [eb_]
              have h_x0 := h_x0.ext hO
              have h_x0r0 := h_x0r0.ext hO
              have h_x0r1 := h_x0r1.ext hO
              have h_x0r2 := h_x0r2.ext hO
              have hF := hF.trans (hO.mono (fun _ _ z => z.elim))
              obtain ⟨v113, ev113, h⟩ := ltl_step h
              refine r_i2l hx hb ev113 dX1_digest_156 ?_
              obtain ⟨o114, eo114, h⟩ := bind_step h
              refine r_cp (r_runS (rest := []) (As := [.long v97, .long v113]) hC 2 (m_X1_add   v97 v113 o114 eo114) q1262 q1263 q46 q1264 hd_X1_add rfl ⟨Nat.le_of_ble_eq_true rfl, Nat.le_of_ble_eq_true rfl⟩ hS trivial hl.1 rfl (Nat.le_of_ble_eq_true rfl) dX1_digest_157 ⟨by have := hcE; have := hsE; omega, by have := hcE; have := hsE; omega⟩) ?_
              refine lv_aload_n hx hb dX1_digest_160 rfl (lv_at hl 0 rfl) ?_
              refine lv_iload_n hx hb dX1_digest_161 rfl (lv_at hl 2 rfl) ?_
              refine lv_iload hx hb dX1_digest_162 (lv_at hl 3 rfl) ?_
              obtain ⟨o115, eo115, h⟩ := bind_step h
              refine r_ci (r_runV (rest := [.long o114]) (As := [.int v76, .int v98]) hC 2 (m_X1_sizeOrder x0 x0r0 x0r1 x0r2  x0r0c x0r1c x0r2c x0f3 x0f4 x0f5 x0f6 v76 v98 o115 eo115) q1319 q1320 q1321 q46 q1322 (OA.recv hS h_x0.OA (C := RX1) rfl) hd_X1_sizeOrder rfl ⟨Nat.le_of_ble_eq_true rfl, Nat.le_of_ble_eq_true rfl⟩ hS ⟨h_x0, h_x0r0, h_x0r1, h_x0r2⟩ hl.1 rfl (Nat.le_of_ble_eq_true rfl) dX1_digest_164 ⟨by have := hcE; have := hsE; omega, by have := hcE; have := hsE; omega⟩) hS (fun b H locs hp hS hz => ?_)
              obtain ⟨eb_, hO⟩ := hp
              rw [eb_]
              have h_x0 := h_x0.ext hO
              have h_x0r0 := h_x0r0.ext hO
              have h_x0r1 := h_x0r1.ext hO
              have h_x0r2 := h_x0r2.ext hO
              have hF := hF.trans (hO.mono (fun _ _ z => z.elim))
              obtain ⟨v116, ev116, h⟩ := ltl_step h
              refine r_i2l hx hb ev116 dX1_digest_167 ?_
              obtain ⟨o117, eo117, h⟩ := bind_step h
              refine r_cp (r_runS (rest := []) (As := [.long o114, .long v116]) hC 2 (m_X1_add   o114 v116 o117 eo117) q1262 q1263 q46 q1264 hd_X1_add rfl ⟨Nat.le_of_ble_eq_true rfl, Nat.le_of_ble_eq_true rfl⟩ hS trivial hl.1 rfl (Nat.le_of_ble_eq_true rfl) dX1_digest_168 ⟨by have := hcE; have := hsE; omega, by have := hcE; have := hsE; omega⟩) ?_
              refine lv_lstore_n (lv' := [(1, .long o117), (0, .ref x0), (3, .int v76), (4, .int v98)]) hx hb dX1_digest_171 rfl hl (by decide) rfl (fun ls hl => ?_)
              obtain ⟨v118, ev118, h⟩ := lti_step h
              refine lv_iinc (v := v118) (lv' := [(4, .int v118), (1, .long o117), (0, .ref x0), (3, .int v76)]) hx hb dX1_digest_172 hl (k := 3) rfl (by rw [ev118]; rfl) (by decide) rfl (fun ls hl => ?_)
              refine lv_goto (tgt := 140) hx hb dX1_digest_175 (by decide) ?_
              obtain rfl := Option.some.inj h
              exact ih o117 v118 w109 hk _ _ (hcN 4 (Nat.le_of_ble_eq_true rfl)) (hsN 4 (Nat.le_of_ble_eq_true rfl)) H locs hS hF h_x0 h_x0r0 h_x0r1 h_x0r2 ls (lv_sub hl [2, 1, 3, 0] rfl) K178
        clear eF108
        refine HL 9 v75 v96 w109 ew109 _ _ (Nat.le_of_eq eCE.symm) (Nat.le_of_eq eSE.symm) H locs hS hF h_x0 h_x0r0 h_x0r1 h_x0r2 ls (lv_sub hl [1, 2, 3, 0] rfl) (fun  H locs hS hF h_x0 h_x0r0 h_x0r1 h_x0r2 ls hl => ?_)
        rw [eCE, eSE]
        obtain ⟨v119, ev119, h⟩ := lti_step h
        refine lv_iinc (v := v119) (lv' := [(3, .int v119), (0, .ref x0), (1, .long w109)]) hx hb dX1_digest_178 hl (k := 2) rfl (by rw [ev119]; rfl) (by decide) rfl (fun ls hl => ?_)
        refine lv_goto (tgt := 129) hx hb dX1_digest_181 (by decide) ?_
        obtain rfl := Option.some.inj h
        exact ih w109 v119 w93 hk _ _ (hcN 36 (Nat.le_of_ble_eq_true rfl)) (hsN 36 (Nat.le_of_ble_eq_true rfl)) H locs hS hF h_x0 h_x0r0 h_x0r1 h_x0r2 ls (lv_sub hl [1, 2, 0] rfl) K184
  clear eF92
  refine HL 9 w56 0 w93 ew93 _ _ (Nat.le_of_eq eCE.symm) (Nat.le_of_eq eSE.symm) H locs hS hF h_x0 h_x0r0 h_x0r1 h_x0r2 ls (lv_sub hl [1, 2, 0] rfl) (fun  H locs hS hF h_x0 h_x0r0 h_x0r1 h_x0r2 ls hl => ?_)
  rw [eCE, eSE]
  refine lv_iconst (v := 0) hx hb dX1_digest_184 (by decide) ?_
  refine lv_istore_n (lv' := [(3, .int 0), (0, .ref x0), (1, .long w93)]) hx hb dX1_digest_185 rfl hl (by decide) rfl (fun ls hl => ?_)
  obtain ⟨F128, eF128, h⟩ := lt_step h
  obtain ⟨w129, ew129, h⟩ := bind_step h
  have HL : ∀ (n : Nat) (v120 : Int64) (v121 : Int32) (w129 : Int64) (hk0 : lp n (fun x => F128 x.1 x.2) (v120, v121) = some w129)  (H : Heap) (locs : List Loc) (hS : St D s H locs) (hF : Off (fun _ => False) s.heap H) (h_x0 : ON D 0 x0 [.ref x0r0, .ref x0r1, .ref x0r2, .int x0f3, .int x0f4, .int x0f5, .int x0f6] H) (h_x0r0 : aD D x0r0 8 x0r0c H) (h_x0r1 : aD D x0r1 8 x0r1c H) (h_x0r2 : aZ D x0r2 8 x0r2c H) (ls : Array Slot) (hl : lv_has ls 5 [(0, .ref x0), (1, .long v120), (3, .int v121)]) (K208 : ∀ (H : Heap) (locs : List Loc) (hS : St D s H locs) (hF : Off (fun _ => False) s.heap H) (h_x0 : ON D 0 x0 [.ref x0r0, .ref x0r1, .ref x0r2, .int x0f3, .int x0f4, .int x0f5, .int x0f6] H) (h_x0r0 : aD D x0r0 8 x0r0c H) (h_x0r1 : aD D x0r1 8 x0r1c H) (h_x0r2 : aZ D x0r2 8 x0r2c H) (ls : Array Slot) (hl : lv_has ls 5 [(0, .ref x0), (1, .long w129)]), W p l e R_X1_digest s m A below meth c H locs 558 2862 Q (F0 m 208 ls [])), W p l e R_X1_digest s m A below meth c H locs 558 2862 Q (F0 m 186 ls []) := by
    intro n
    induction n with
    | zero => intro v120 v121 w129 hk0  H locs hS hF h_x0 h_x0r0 h_x0r1 h_x0r2 ls hl K208; exact lp_zero hk0
    | succ n ih =>
      intro v120 v121 w129 hk0  H locs hS hF h_x0 h_x0r0 h_x0r1 h_x0r2 ls hl K208
      obtain ⟨z130, hz, hk⟩ := lp_step hk0
      have h := (congrFun (congrFun (eF128) v120) v121).symm.trans hz
      refine lv_iload_n hx hb dX1_digest_186 rfl (lv_at hl 2 rfl) ?_
      refine lv_iconst (v := 4) hx hb dX1_digest_187 (by decide) ?_
      refine lv_icmp_ge (tgt := 208) hx hb dX1_digest_188 (by decide) (fun c131 => ?_) (fun c131 => ?_)
      · have h := it_pos h c131
        obtain rfl := Option.some.inj h
        obtain rfl := id hk
        exact K208 H locs hS hF h_x0 h_x0r0 h_x0r1 h_x0r2 ls (lv_sub hl [0, 1] rfl)
      · have h := it_neg h c131
        refine lv_lload_n hx hb dX1_digest_191 rfl (lv_at hl 1 rfl) ?_
        refine lv_aload_n hx hb dX1_digest_192 rfl (lv_at hl 0 rfl) ?_
        refine lv_iload_n hx hb dX1_digest_193 rfl (lv_at hl 2 rfl) ?_
        obtain ⟨o132, eo132, h⟩ := bind_step h
        refine r_cp (r_runV (rest := [.long v120]) (As := [.int v121]) hC 1 (m_X1_house x0 x0r0 x0r1 x0r2  x0r0c x0r1c x0r2c x0f3 x0f4 x0f5 x0f6 v121 o132 eo132) q1323 q1249 q1250 q46 q1251 (OA.recv hS h_x0.OA (C := RX1) rfl) hd_X1_house rfl ⟨Nat.le_of_ble_eq_true rfl, Nat.le_of_ble_eq_true rfl⟩ hS ⟨h_x0, h_x0r0, h_x0r1, h_x0r2⟩ hl.1 rfl (Nat.le_of_ble_eq_true rfl) dX1_digest_194 ⟨Nat.le_of_ble_eq_true rfl, Nat.le_of_ble_eq_true rfl⟩) ?_
        obtain ⟨v133, ev133, h⟩ := ltl_step h
        refine r_i2l hx hb ev133 dX1_digest_197 ?_
        obtain ⟨o134, eo134, h⟩ := bind_step h
        refine r_cp (r_runS (rest := []) (As := [.long v120, .long v133]) hC 2 (m_X1_add   v120 v133 o134 eo134) q1262 q1263 q46 q1264 hd_X1_add rfl ⟨Nat.le_of_ble_eq_true rfl, Nat.le_of_ble_eq_true rfl⟩ hS trivial hl.1 rfl (Nat.le_of_ble_eq_true rfl) dX1_digest_198 ⟨Nat.le_of_ble_eq_true rfl, Nat.le_of_ble_eq_true rfl⟩) ?_
        refine lv_lstore_n (lv' := [(1, .long o134), (0, .ref x0), (3, .int v121)]) hx hb dX1_digest_201 rfl hl (by decide) rfl (fun ls hl => ?_)
        obtain ⟨v135, ev135, h⟩ := lti_step h
        refine lv_iinc (v := v135) (lv' := [(3, .int v135), (1, .long o134), (0, .ref x0)]) hx hb dX1_digest_202 hl (k := 2) rfl (by rw [ev135]; rfl) (by decide) rfl (fun ls hl => ?_)
        refine lv_goto (tgt := 186) hx hb dX1_digest_205 (by decide) ?_
        obtain rfl := Option.some.inj h
        exact ih o134 v135 w129 hk  H locs hS hF h_x0 h_x0r0 h_x0r1 h_x0r2 ls (lv_sub hl [2, 1, 0] rfl) K208
  clear eF128
  refine HL 9 w93 0 w129 ew129  H locs hS hF h_x0 h_x0r0 h_x0r1 h_x0r2 ls (lv_sub hl [1, 2, 0] rfl) (fun  H locs hS hF h_x0 h_x0r0 h_x0r1 h_x0r2 ls hl => ?_)
  refine lv_lload_n hx hb dX1_digest_208 rfl (lv_at hl 1 rfl) ?_
  refine lv_aload_n hx hb dX1_digest_209 rfl (lv_at hl 0 rfl) ?_
  obtain ⟨o136, eo136, h⟩ := bind_step h
  refine r_cz (r_runV (rest := [.long w129]) (As := []) hC 0 (m_X1_isSound x0 x0r0 x0r1 x0r2  x0r0c x0r1c x0r2c x0f3 x0f4 x0f5 x0f6 o136 eo136) q1324 q1325 q1326 q46 q1327 (OA.recv hS h_x0.OA (C := RX1) rfl) hd_X1_isSound rfl ⟨Nat.le_of_ble_eq_true rfl, Nat.le_of_ble_eq_true rfl⟩ hS ⟨h_x0, h_x0r0, h_x0r1, h_x0r2⟩ hl.1 rfl (Nat.le_of_ble_eq_true rfl) dX1_digest_210 ⟨Nat.le_of_ble_eq_true rfl, Nat.le_of_ble_eq_true rfl⟩) hS (fun b H locs hp hS hz => ?_)
  obtain ⟨eb_, hO⟩ := hp
  rw [eb_]
  have h_x0 := h_x0.ext hO
  have h_x0r0 := h_x0r0.ext hO
  have h_x0r1 := h_x0r1.ext hO
  have h_x0r2 := h_x0r2.ext hO
  have hF := hF.trans (hO.mono (fun _ _ z => z.elim))
  obtain ⟨o137, eo137, h⟩ := bind_step h
  refine r_cp (r_runS (rest := [.long w129]) (As := [.int (bI o136)]) hC 1 (m_X1_bit   o136 o137 eo137) q389 q390 q46 q391 hd_X1_bit rfl ⟨Nat.le_of_ble_eq_true rfl, Nat.le_of_ble_eq_true rfl⟩ hS trivial hl.1 rfl (Nat.le_of_ble_eq_true rfl) dX1_digest_213 ⟨Nat.le_of_ble_eq_true rfl, Nat.le_of_ble_eq_true rfl⟩) ?_
  obtain ⟨v138, ev138, h⟩ := ltl_step h
  refine r_i2l hx hb ev138 dX1_digest_216 ?_
  obtain ⟨o139, eo139, h⟩ := bind_step h
  refine r_cp (r_runS (rest := []) (As := [.long w129, .long v138]) hC 2 (m_X1_add   w129 v138 o139 eo139) q1262 q1263 q46 q1264 hd_X1_add rfl ⟨Nat.le_of_ble_eq_true rfl, Nat.le_of_ble_eq_true rfl⟩ hS trivial hl.1 rfl (Nat.le_of_ble_eq_true rfl) dX1_digest_217 ⟨Nat.le_of_ble_eq_true rfl, Nat.le_of_ble_eq_true rfl⟩) ?_
  obtain rfl := Option.some.inj h
  rw [eQ]
  exact r_lret hx hb hr hlk hS (Nat.le_of_ble_eq_true rfl) (Nat.le_of_ble_eq_true rfl) dX1_digest_220 ⟨_, rfl, rfl, hF⟩

abbrev R_X1_isRound : Room := { frames := 9, cells := 41, slots := 400, locals := 1411 }
noncomputable def f_X1_isRound (x0r0c : Nat → UInt64) (x0r1c : Nat → UInt64) (x0r2c : Nat → Int32) (x0f3 : Int32) (x0f4 : Int32) (x0f5 : Int32) (x0f6 : Int32) (x1 : Int32) : Option (Bool) :=
  Option.bind (f_X1_angleAt x0r0c x0r1c x0r2c x0f3 x0f4 x0f5 x0f6 x1) fun o1 =>
  Option.bind (f_J6_sin o1) fun o2 =>
  Option.bind (f_J6_cos o1) fun o3 =>
  Option.bind (f_X1_isRoundBy o2 o3) fun o4 =>
  some o4
theorem hd_X1_isRound : Hd yX1_isRound 1 := by unfold Hd; decide +kernel
set_option maxHeartbeats 4000000 in
set_option maxRecDepth 100000 in
theorem m_X1_isRound {l : Launch} {D : DD} (x0 : Nat) (x0r0 : Nat) (x0r1 : Nat) (x0r2 : Nat)  (x0r0c : Nat → UInt64) (x0r1c : Nat → UInt64) (x0r2c : Nat → Int32) (x0f3 : Int32) (x0f4 : Int32) (x0f5 : Int32) (x0f6 : Int32) (x1 : Int32) (r : Bool) (h : f_X1_isRound x0r0c x0r1c x0r2c x0f3 x0f4 x0f5 x0f6 x1 = some r) : MT l D yX1_isRound cX1_isRound 4 (some .boolean) 9 1411 41 400 [.ref x0, .int x1] (fun H => ON D 0 x0 [.ref x0r0, .ref x0r1, .ref x0r2, .int x0f3, .int x0f4, .int x0f5, .int x0f6] H ∧ aD D x0r0 8 x0r0c H ∧ aD D x0r1 8 x0r1c H ∧ aZ D x0r2 8 x0r2c H) (pZ (fun H b H' => b = r ∧ Off (fun _ => False) H H')) := by
  refine MT.start (by decide +kernel) (Nat.le_of_ble_eq_true rfl) ?_
  intro p e s m below meth c ls hC hS hp hl
  obtain ⟨h_x0, h_x0r0, h_x0r1, h_x0r2⟩ := hp
  obtain ⟨hx, hb, hr, hlk, hml, hown, hts, hnm⟩ := id hC
  have hl : lv_has ls 4 [(0, .ref x0), (1, .int x1)] := hl
  unfold f_X1_isRound at h
  have hS0 := hS
  obtain ⟨A, eA⟩ : ∃ A : Array Value, A = [.ref x0, .int x1].toArray := ⟨_, rfl⟩
  rw [← eA] at hC hts ⊢
  obtain ⟨Q, eQ⟩ : ∃ Q : State → Prop, Q = MQ below (TQ D (pZ (fun H b H' => b = r ∧ Off (fun _ => False) H H'))) A s 41 400 (fun q => dB D ≤ q) := ⟨_, rfl⟩
  have hF : Off (fun _ => False) s.heap s.heap := Off.rf
  show W p l e R_X1_isRound s m A below meth c s.heap [] 0 0 _ _
  rw [← eQ]
  obtain ⟨H, eH⟩ : ∃ H : Heap, H = s.heap := ⟨_, rfl⟩
  obtain ⟨locs, eLc⟩ : ∃ L : List Loc, L = [] := ⟨_, rfl⟩
  have lt_h_x0 := h_x0.lt
  have lt_h_x0r0 := h_x0r0.lt
  have lt_h_x0r1 := h_x0r1.lt
  have lt_h_x0r2 := h_x0r2.lt
  rw [← eH, ← eLc]
  have hF : Off (fun _ => False) s.heap H := by rw [eH]; exact hF
  rw [← eH] at h_x0
  rw [← eH] at h_x0r0
  rw [← eH] at h_x0r1
  rw [← eH] at h_x0r2
  have hS : St D s H locs := by rw [eH, eLc]; exact hS
  refine lv_aload_n hx hb dX1_isRound_0 rfl (lv_at hl 0 rfl) ?_
  refine lv_iload_n hx hb dX1_isRound_1 rfl (lv_at hl 1 rfl) ?_
  obtain ⟨o1, eo1, h⟩ := bind_step h
  refine r_cp (r_runV (rest := []) (As := [.int x1]) hC 1 (m_X1_angleAt x0 x0r0 x0r1 x0r2  x0r0c x0r1c x0r2c x0f3 x0f4 x0f5 x0f6 x1 o1 eo1) q952 q954 qs11 q46 q955 (OA.recv hS h_x0.OA (C := RX1) rfl) hd_X1_angleAt rfl ⟨Nat.le_of_ble_eq_true rfl, Nat.le_of_ble_eq_true rfl⟩ hS ⟨h_x0, h_x0r0, h_x0r1, h_x0r2⟩ hl.1 rfl (Nat.le_of_ble_eq_true rfl) dX1_isRound_2 ⟨Nat.le_of_ble_eq_true rfl, Nat.le_of_ble_eq_true rfl⟩) ?_
  refine lv_dstore_n (lv' := [(2, .double o1), (0, .ref x0), (1, .int x1)]) hx hb dX1_isRound_5 rfl hl (by decide) rfl (fun ls hl => ?_)
  refine lv_dload_n hx hb dX1_isRound_6 rfl (lv_at hl 0 rfl) ?_
  obtain ⟨o2, eo2, h⟩ := bind_step h
  refine r_cd (r_runS (rest := []) (As := [.double o1]) hC 1 (m_J6_sin o1  o2 eo2) q173 q174 q47 q175 hd_J6_sin rfl ⟨Nat.le_of_ble_eq_true rfl, Nat.le_of_ble_eq_true rfl⟩ hS trivial hl.1 rfl (Nat.le_of_ble_eq_true rfl) dX1_isRound_7 ⟨Nat.le_of_ble_eq_true rfl, Nat.le_of_ble_eq_true rfl⟩) hS (fun b H locs hp hS hz => ?_)
  obtain ⟨eb_, hO⟩ := hp
  rw [eb_]
  have h_x0 := h_x0.ext hO
  have h_x0r0 := h_x0r0.ext hO
  have h_x0r1 := h_x0r1.ext hO
  have h_x0r2 := h_x0r2.ext hO
  have hF := hF.trans (hO.mono (fun _ _ z => z.elim))
  refine lv_dload_n hx hb dX1_isRound_10 rfl (lv_at hl 0 rfl) ?_
  obtain ⟨o3, eo3, h⟩ := bind_step h
  refine r_cd (r_runS (rest := [.double o2]) (As := [.double o1]) hC 1 (m_J6_cos o1  o3 eo3) q318 q319 q47 q320 hd_J6_cos rfl ⟨Nat.le_of_ble_eq_true rfl, Nat.le_of_ble_eq_true rfl⟩ hS trivial hl.1 rfl (Nat.le_of_ble_eq_true rfl) dX1_isRound_11 ⟨Nat.le_of_ble_eq_true rfl, Nat.le_of_ble_eq_true rfl⟩) hS (fun b H locs hp hS hz => ?_)
  obtain ⟨eb_, hO⟩ := hp
  rw [eb_]
  have h_x0 := h_x0.ext hO
  have h_x0r0 := h_x0r0.ext hO
  have h_x0r1 := h_x0r1.ext hO
  have h_x0r2 := h_x0r2.ext hO
  have hF := hF.trans (hO.mono (fun _ _ z => z.elim))
  obtain ⟨o4, eo4, h⟩ := bind_step h
  refine r_cz (r_runS (rest := []) (As := [.double o2, .double o3]) hC 2 (m_X1_isRoundBy   o2 o3 o4 eo4) q406 q407 q46 q408 hd_X1_isRoundBy rfl ⟨Nat.le_of_ble_eq_true rfl, Nat.le_of_ble_eq_true rfl⟩ hS trivial hl.1 rfl (Nat.le_of_ble_eq_true rfl) dX1_isRound_14 ⟨Nat.le_of_ble_eq_true rfl, Nat.le_of_ble_eq_true rfl⟩) hS (fun b H locs hp hS hz => ?_)
  obtain ⟨eb_, hO⟩ := hp
  rw [eb_]
  have h_x0 := h_x0.ext hO
  have h_x0r0 := h_x0r0.ext hO
  have h_x0r1 := h_x0r1.ext hO
  have h_x0r2 := h_x0r2.ext hO
  have hF := hF.trans (hO.mono (fun _ _ z => z.elim))
  obtain rfl := Option.some.inj h
  rw [eQ]
  exact r_zret hx hb hr hlk hS (narB _) (Nat.le_of_ble_eq_true rfl) (Nat.le_of_ble_eq_true rfl) dX1_isRound_17 ⟨_, rfl, rfl, hF⟩

abbrev R_X1_holdsTwice : Room := { frames := 10, cells := 47, slots := 485, locals := 1437 }
noncomputable def f_X1_holdsTwice (x0r0c : Nat → UInt64) (x0r1c : Nat → UInt64) (x0r2c : Nat → Int32) (x0f3 : Int32) (x0f4 : Int32) (x0f5 : Int32) (x0f6 : Int32) (x1 : Int32) (x2 : Int32) : Option (Int32) :=
  Option.bind (f_X1_angleAt x0r0c x0r1c x0r2c x0f3 x0f4 x0f5 x0f6 x1) fun o1 =>
  Option.bind (f_X1_isIn x2 0 1) fun o2 =>
  Option.bind (f_X1_mustFit o2) fun o3 =>
  ck (dmulF 4611686018427387904 o1) fun v4 =>
  Option.bind (f_X1_isInSet v4) fun o5 =>
  (if o5 = true then
    ck (dmulF 4611686018427387904 o1) fun v7 =>
    Option.bind (f_J6_sin o1) fun o8 =>
    Option.bind (f_J6_cos o1) fun o9 =>
    Option.bind (f_X1_isTwiceBy x2 v7 o8 o9) fun o10 =>
    Option.bind (f_X1_bit o10) fun o11 =>
    some o11
  else
    some (-9)
  )
theorem hd_X1_holdsTwice : Hd yX1_holdsTwice 2 := by unfold Hd; decide +kernel
set_option maxHeartbeats 4000000 in
set_option maxRecDepth 100000 in
theorem m_X1_holdsTwice {l : Launch} {D : DD} (x0 : Nat) (x0r0 : Nat) (x0r1 : Nat) (x0r2 : Nat)  (x0r0c : Nat → UInt64) (x0r1c : Nat → UInt64) (x0r2c : Nat → Int32) (x0f3 : Int32) (x0f4 : Int32) (x0f5 : Int32) (x0f6 : Int32) (x1 : Int32) (x2 : Int32) (r : Int32) (h : f_X1_holdsTwice x0r0c x0r1c x0r2c x0f3 x0f4 x0f5 x0f6 x1 x2 = some r) : MT l D yX1_holdsTwice cX1_holdsTwice 5 (some .int) 10 1437 47 485 [.ref x0, .int x1, .int x2] (fun H => ON D 0 x0 [.ref x0r0, .ref x0r1, .ref x0r2, .int x0f3, .int x0f4, .int x0f5, .int x0f6] H ∧ aD D x0r0 8 x0r0c H ∧ aD D x0r1 8 x0r1c H ∧ aZ D x0r2 8 x0r2c H) (pI (fun H b H' => b = r ∧ Off (fun _ => False) H H')) := by
  refine MT.start (by decide +kernel) (Nat.le_of_ble_eq_true rfl) ?_
  intro p e s m below meth c ls hC hS hp hl
  obtain ⟨h_x0, h_x0r0, h_x0r1, h_x0r2⟩ := hp
  obtain ⟨hx, hb, hr, hlk, hml, hown, hts, hnm⟩ := id hC
  have hl : lv_has ls 5 [(0, .ref x0), (1, .int x1), (2, .int x2)] := hl
  unfold f_X1_holdsTwice at h
  have hS0 := hS
  obtain ⟨A, eA⟩ : ∃ A : Array Value, A = [.ref x0, .int x1, .int x2].toArray := ⟨_, rfl⟩
  rw [← eA] at hC hts ⊢
  obtain ⟨Q, eQ⟩ : ∃ Q : State → Prop, Q = MQ below (TQ D (pI (fun H b H' => b = r ∧ Off (fun _ => False) H H'))) A s 47 485 (fun q => dB D ≤ q) := ⟨_, rfl⟩
  have hF : Off (fun _ => False) s.heap s.heap := Off.rf
  show W p l e R_X1_holdsTwice s m A below meth c s.heap [] 0 0 _ _
  rw [← eQ]
  obtain ⟨H, eH⟩ : ∃ H : Heap, H = s.heap := ⟨_, rfl⟩
  obtain ⟨locs, eLc⟩ : ∃ L : List Loc, L = [] := ⟨_, rfl⟩
  have lt_h_x0 := h_x0.lt
  have lt_h_x0r0 := h_x0r0.lt
  have lt_h_x0r1 := h_x0r1.lt
  have lt_h_x0r2 := h_x0r2.lt
  rw [← eH, ← eLc]
  have hF : Off (fun _ => False) s.heap H := by rw [eH]; exact hF
  rw [← eH] at h_x0
  rw [← eH] at h_x0r0
  rw [← eH] at h_x0r1
  rw [← eH] at h_x0r2
  have hS : St D s H locs := by rw [eH, eLc]; exact hS
  refine lv_aload_n hx hb dX1_holdsTwice_0 rfl (lv_at hl 0 rfl) ?_
  refine lv_iload_n hx hb dX1_holdsTwice_1 rfl (lv_at hl 1 rfl) ?_
  obtain ⟨o1, eo1, h⟩ := bind_step h
  refine r_cp (r_runV (rest := []) (As := [.int x1]) hC 1 (m_X1_angleAt x0 x0r0 x0r1 x0r2  x0r0c x0r1c x0r2c x0f3 x0f4 x0f5 x0f6 x1 o1 eo1) q952 q954 qs11 q46 q955 (OA.recv hS h_x0.OA (C := RX1) rfl) hd_X1_angleAt rfl ⟨Nat.le_of_ble_eq_true rfl, Nat.le_of_ble_eq_true rfl⟩ hS ⟨h_x0, h_x0r0, h_x0r1, h_x0r2⟩ hl.1 rfl (Nat.le_of_ble_eq_true rfl) dX1_holdsTwice_2 ⟨Nat.le_of_ble_eq_true rfl, Nat.le_of_ble_eq_true rfl⟩) ?_
  refine lv_dstore_n (lv' := [(3, .double o1), (0, .ref x0), (1, .int x1), (2, .int x2)]) hx hb dX1_holdsTwice_5 rfl hl (by decide) rfl (fun ls hl => ?_)
  refine lv_iload_n hx hb dX1_holdsTwice_6 rfl (lv_at hl 3 rfl) ?_
  refine lv_iconst (v := 0) hx hb dX1_holdsTwice_7 (by decide) ?_
  refine lv_iconst (v := 1) hx hb dX1_holdsTwice_8 (by decide) ?_
  obtain ⟨o2, eo2, h⟩ := bind_step h
  refine r_cp (r_runS (rest := []) (As := [.int x2, .int 0, .int 1]) hC 3 (m_X1_isIn   x2 0 1 o2 eo2) q395 q396 q46 q397 hd_X1_isIn rfl ⟨Nat.le_of_ble_eq_true rfl, Nat.le_of_ble_eq_true rfl⟩ hS trivial hl.1 rfl (Nat.le_of_ble_eq_true rfl) dX1_holdsTwice_9 ⟨Nat.le_of_ble_eq_true rfl, Nat.le_of_ble_eq_true rfl⟩) ?_
  obtain ⟨o3, eo3, h⟩ := bind_step h
  refine r_cpv (r_runS (rest := []) (As := [.int (bI o2)]) hC 1 (m_X1_mustFit   o2 o3 eo3) q1230 q1231 q46 q1232 hd_X1_mustFit rfl ⟨Nat.le_of_ble_eq_true rfl, Nat.le_of_ble_eq_true rfl⟩ hS trivial hl.1 rfl (Nat.le_of_ble_eq_true rfl) dX1_holdsTwice_12 ⟨Nat.le_of_ble_eq_true rfl, Nat.le_of_ble_eq_true rfl⟩) ?_
  refine lv_ldc2d hx hb (v := 4611686018427387904) hown (hts _ q903) dX1_holdsTwice_15 ?_
  refine lv_dload_n hx hb dX1_holdsTwice_18 rfl (lv_at hl 0 rfl) ?_
  obtain ⟨v4, ev4, nv4, h⟩ := ck_step h
  refine r_dmul hx hb ev4 nv4 dX1_holdsTwice_19 ?_
  obtain ⟨o5, eo5, h⟩ := bind_step h
  refine r_cp (r_runS (rest := []) (As := [.double v4]) hC 1 (m_X1_isInSet   v4 o5 eo5) q354 q355 q46 q356 hd_X1_isInSet rfl ⟨Nat.le_of_ble_eq_true rfl, Nat.le_of_ble_eq_true rfl⟩ hS trivial hl.1 rfl (Nat.le_of_ble_eq_true rfl) dX1_holdsTwice_20 ⟨Nat.le_of_ble_eq_true rfl, Nat.le_of_ble_eq_true rfl⟩) ?_
  refine r_ifz_ne (tgt := 29) hx hb dX1_holdsTwice_23 (by decide) (fun c6 => ?_) (fun c6 => ?_)
  · have h := it_pos h (by rw [c6])
    refine lv_iload_n hx hb dX1_holdsTwice_29 rfl (lv_at hl 3 rfl) ?_
    refine lv_ldc2d hx hb (v := 4611686018427387904) hown (hts _ q903) dX1_holdsTwice_30 ?_
    refine lv_dload_n hx hb dX1_holdsTwice_33 rfl (lv_at hl 0 rfl) ?_
    obtain ⟨v7, ev7, nv7, h⟩ := ck_step h
    refine r_dmul hx hb ev7 nv7 dX1_holdsTwice_34 ?_
    refine lv_dload_n hx hb dX1_holdsTwice_35 rfl (lv_at hl 0 rfl) ?_
    obtain ⟨o8, eo8, h⟩ := bind_step h
    refine r_cd (r_runS (rest := [.double v7, .int x2]) (As := [.double o1]) hC 1 (m_J6_sin o1  o8 eo8) q173 q174 q47 q175 hd_J6_sin rfl ⟨Nat.le_of_ble_eq_true rfl, Nat.le_of_ble_eq_true rfl⟩ hS trivial hl.1 rfl (Nat.le_of_ble_eq_true rfl) dX1_holdsTwice_36 ⟨Nat.le_of_ble_eq_true rfl, Nat.le_of_ble_eq_true rfl⟩) hS (fun b H locs hp hS hz => ?_)
    obtain ⟨eb_, hO⟩ := hp
    rw [eb_]
    have h_x0 := h_x0.ext hO
    have h_x0r0 := h_x0r0.ext hO
    have h_x0r1 := h_x0r1.ext hO
    have h_x0r2 := h_x0r2.ext hO
    have hF := hF.trans (hO.mono (fun _ _ z => z.elim))
    refine lv_dload_n hx hb dX1_holdsTwice_39 rfl (lv_at hl 0 rfl) ?_
    obtain ⟨o9, eo9, h⟩ := bind_step h
    refine r_cd (r_runS (rest := [.double o8, .double v7, .int x2]) (As := [.double o1]) hC 1 (m_J6_cos o1  o9 eo9) q318 q319 q47 q320 hd_J6_cos rfl ⟨Nat.le_of_ble_eq_true rfl, Nat.le_of_ble_eq_true rfl⟩ hS trivial hl.1 rfl (Nat.le_of_ble_eq_true rfl) dX1_holdsTwice_40 ⟨Nat.le_of_ble_eq_true rfl, Nat.le_of_ble_eq_true rfl⟩) hS (fun b H locs hp hS hz => ?_)
    obtain ⟨eb_, hO⟩ := hp
    rw [eb_]
    have h_x0 := h_x0.ext hO
    have h_x0r0 := h_x0r0.ext hO
    have h_x0r1 := h_x0r1.ext hO
    have h_x0r2 := h_x0r2.ext hO
    have hF := hF.trans (hO.mono (fun _ _ z => z.elim))
    obtain ⟨o10, eo10, h⟩ := bind_step h
    refine r_cz (r_runS (rest := []) (As := [.int x2, .double v7, .double o8, .double o9]) hC 4 (m_X1_isTwiceBy   x2 v7 o8 o9 o10 eo10) q904 q905 q46 q906 hd_X1_isTwiceBy rfl ⟨Nat.le_of_ble_eq_true rfl, Nat.le_of_ble_eq_true rfl⟩ hS trivial hl.1 rfl (Nat.le_of_ble_eq_true rfl) dX1_holdsTwice_43 ⟨Nat.le_of_ble_eq_true rfl, Nat.le_of_ble_eq_true rfl⟩) hS (fun b H locs hp hS hz => ?_)
    obtain ⟨eb_, hO⟩ := hp
    rw [eb_]
    have h_x0 := h_x0.ext hO
    have h_x0r0 := h_x0r0.ext hO
    have h_x0r1 := h_x0r1.ext hO
    have h_x0r2 := h_x0r2.ext hO
    have hF := hF.trans (hO.mono (fun _ _ z => z.elim))
    obtain ⟨o11, eo11, h⟩ := bind_step h
    refine r_cp (r_runS (rest := []) (As := [.int (bI o10)]) hC 1 (m_X1_bit   o10 o11 eo11) q389 q390 q46 q391 hd_X1_bit rfl ⟨Nat.le_of_ble_eq_true rfl, Nat.le_of_ble_eq_true rfl⟩ hS trivial hl.1 rfl (Nat.le_of_ble_eq_true rfl) dX1_holdsTwice_46 ⟨Nat.le_of_ble_eq_true rfl, Nat.le_of_ble_eq_true rfl⟩) ?_
    obtain rfl := Option.some.inj h
    rw [eQ]
    exact r_iret hx hb hr hlk hS (Nat.le_of_ble_eq_true rfl) (Nat.le_of_ble_eq_true rfl) dX1_holdsTwice_49 ⟨_, rfl, rfl, hF⟩
  · have h := it_neg h (by rw [c6]; decide)
    refine lv_bipush (v := (-9)) hx hb dX1_holdsTwice_26 (by decide) ?_
    obtain rfl := Option.some.inj h
    rw [eQ]
    exact r_iret hx hb hr hlk hS (Nat.le_of_ble_eq_true rfl) (Nat.le_of_ble_eq_true rfl) dX1_holdsTwice_28 ⟨_, rfl, rfl, hF⟩

abbrev R_X1_isLawful : Room := { frames := 10, cells := 268, slots := 2614, locals := 1441 }
noncomputable def f_X1_isLawful (x0 : UInt64) : Option (Bool) :=
  Option.bind (f_J6_sin x0) fun o1 =>
  Option.bind (f_J6_cos x0) fun o2 =>
  Option.bind (f_J6_tan x0) fun o3 =>
  Option.bind (f_X1_isInSet x0) fun o4 =>
  lt (fun (v5 : Bool) =>
  lt (fun (v7 : Bool) =>
  lt (fun (v9 : Bool) =>
  ck (dmulF 4611686018427387904 x0) fun v11 =>
  Option.bind (f_X1_isInSet v11) fun o12 =>
  lt (fun (v13 : Bool) =>
  Option.bind (f_X1_isStep x0) fun o15 =>
  (if o15 = true then
    (if v13 = true then
      ck (daddF x0 4593671619917905920) fun v18 =>
      Option.bind (f_X1_isStepBy 0 v18 o1 o2) fun o19 =>
      (if o19 = true then
        ck (daddF x0 4593671619917905920) fun v21 =>
        Option.bind (f_X1_isStepBy 1 v21 o1 o2) fun o22 =>
        (if o22 = true then
          some true
        else
          some false
        )
      else
        some false
      )
    else
      some false
    )
  else
    some v13
  )
  ) fun K14 =>
  (if o12 = true then
    lt (fun (v25 : Bool) =>
    K14 v25
    ) fun K26 =>
    lt (fun (_u : Unit) =>
    K26 false
    ) fun K27 =>
    (if v9 = true then
      ck (dmulF 4611686018427387904 x0) fun v29 =>
      Option.bind (f_X1_isTwiceBy 0 v29 o1 o2) fun o30 =>
      (if o30 = true then
        ck (dmulF 4611686018427387904 x0) fun v32 =>
        Option.bind (f_X1_isTwiceBy 1 v32 o1 o2) fun o33 =>
        (if o33 = true then
          K26 true
        else
          K27 ()
        )
      else
        K27 ()
      )
    else
      K27 ()
    )
  else
    K14 v9
  )
  ) fun K10 =>
  lt (fun (_u : Unit) =>
  K10 false
  ) fun K35 =>
  (if v7 = true then
    Option.bind (f_X1_isRoundBy o1 o2) fun o37 =>
    (if o37 = true then
      Option.bind (f_X1_isSlopeBy o1 o2 o3) fun o39 =>
      (if o39 = true then
        K10 true
      else
        K35 ()
      )
    else
      K35 ()
    )
  else
    K35 ()
  )
  ) fun K8 =>
  lt (fun (_u : Unit) =>
  K8 false
  ) fun K41 =>
  (if v5 = true then
    ltd (FP.dneg x0) fun v43 =>
    Option.bind (f_J6_sin v43) fun o44 =>
    Option.bind (f_X1_isMirror 0 o44 o1) fun o45 =>
    (if o45 = true then
      ltd (FP.dneg x0) fun v47 =>
      Option.bind (f_J6_cos v47) fun o48 =>
      Option.bind (f_X1_isMirror 1 o48 o2) fun o49 =>
      (if o49 = true then
        ltd (FP.dneg x0) fun v51 =>
        Option.bind (f_J6_tan v51) fun o52 =>
        Option.bind (f_X1_isMirror 2 o52 o3) fun o53 =>
        (if o53 = true then
          K8 true
        else
          K41 ()
        )
      else
        K41 ()
      )
    else
      K41 ()
    )
  else
    K41 ()
  )
  ) fun K6 =>
  lt (fun (_u : Unit) =>
  K6 false
  ) fun K55 =>
  (if o4 = true then
    Option.bind (f_X1_isInside o1 false) fun o57 =>
    (if o57 = true then
      lti (dcmpF x0 0 .l) fun v59 =>
      lt (fun (v60 : Bool) =>
      Option.bind (f_X1_isInside o2 v60) fun o62 =>
      (if o62 = true then
        K6 true
      else
        K55 ()
      )
      ) fun K61 =>
      (if v59 = 0 then
        K61 true
      else
        K61 false
      )
    else
      K55 ()
    )
  else
    K55 ()
  )
theorem hd_X1_isLawful : Hd yX1_isLawful 1 := by unfold Hd; decide +kernel
set_option maxHeartbeats 4000000 in
set_option maxRecDepth 100000 in
theorem m_X1_isLawful {l : Launch} {D : DD}   (x0 : UInt64) (r : Bool) (h : f_X1_isLawful x0 = some r) : MT l D yX1_isLawful cX1_isLawful 9 (some .boolean) 10 1441 268 2614 [.double x0] NoPre (pZ (fun H b H' => b = r ∧ Off (fun _ => False) H H')) := by
  refine MT.start (by decide +kernel) (Nat.le_of_ble_eq_true rfl) ?_
  intro p e s m below meth c ls hC hS hp hl
  obtain ⟨hx, hb, hr, hlk, hml, hown, hts, hnm⟩ := id hC
  have hl : lv_has ls 9 [(0, .double x0)] := hl
  unfold f_X1_isLawful at h
  have hS0 := hS
  obtain ⟨A, eA⟩ : ∃ A : Array Value, A = [.double x0].toArray := ⟨_, rfl⟩
  rw [← eA] at hC hts ⊢
  obtain ⟨Q, eQ⟩ : ∃ Q : State → Prop, Q = MQ below (TQ D (pZ (fun H b H' => b = r ∧ Off (fun _ => False) H H'))) A s 268 2614 (fun q => dB D ≤ q) := ⟨_, rfl⟩
  have hF : Off (fun _ => False) s.heap s.heap := Off.rf
  show W p l e R_X1_isLawful s m A below meth c s.heap [] 0 0 _ _
  rw [← eQ]
  obtain ⟨H, eH⟩ : ∃ H : Heap, H = s.heap := ⟨_, rfl⟩
  obtain ⟨locs, eLc⟩ : ∃ L : List Loc, L = [] := ⟨_, rfl⟩
  rw [← eH, ← eLc]
  have hF : Off (fun _ => False) s.heap H := by rw [eH]; exact hF
  have hS : St D s H locs := by rw [eH, eLc]; exact hS
  refine lv_dload_n hx hb dX1_isLawful_0 rfl (lv_at hl 0 rfl) ?_
  obtain ⟨o1, eo1, h⟩ := bind_step h
  refine r_cd (r_runS (rest := []) (As := [.double x0]) hC 1 (m_J6_sin x0  o1 eo1) q173 q174 q47 q175 hd_J6_sin rfl ⟨Nat.le_of_ble_eq_true rfl, Nat.le_of_ble_eq_true rfl⟩ hS trivial hl.1 rfl (Nat.le_of_ble_eq_true rfl) dX1_isLawful_1 ⟨Nat.le_of_ble_eq_true rfl, Nat.le_of_ble_eq_true rfl⟩) hS (fun b H locs hp hS hz => ?_)
  obtain ⟨eb_, hO⟩ := hp
  rw [eb_]
  have hF := hF.trans (hO.mono (fun _ _ z => z.elim))
  refine lv_dstore_n (lv' := [(2, .double o1), (0, .double x0)]) hx hb dX1_isLawful_4 rfl hl (by decide) rfl (fun ls hl => ?_)
  refine lv_dload_n hx hb dX1_isLawful_5 rfl (lv_at hl 1 rfl) ?_
  obtain ⟨o2, eo2, h⟩ := bind_step h
  refine r_cd (r_runS (rest := []) (As := [.double x0]) hC 1 (m_J6_cos x0  o2 eo2) q318 q319 q47 q320 hd_J6_cos rfl ⟨Nat.le_of_ble_eq_true rfl, Nat.le_of_ble_eq_true rfl⟩ hS trivial hl.1 rfl (Nat.le_of_ble_eq_true rfl) dX1_isLawful_6 ⟨Nat.le_of_ble_eq_true rfl, Nat.le_of_ble_eq_true rfl⟩) hS (fun b H locs hp hS hz => ?_)
  obtain ⟨eb_, hO⟩ := hp
  rw [eb_]
  have hF := hF.trans (hO.mono (fun _ _ z => z.elim))
  refine lv_dstore (lv' := [(4, .double o2), (2, .double o1), (0, .double x0)]) hx hb dX1_isLawful_9 hl (by decide) rfl (fun ls hl => ?_)
  refine lv_dload_n hx hb dX1_isLawful_11 rfl (lv_at hl 2 rfl) ?_
  obtain ⟨o3, eo3, h⟩ := bind_step h
  refine r_cd (r_runS (rest := []) (As := [.double x0]) hC 1 (m_J6_tan x0  o3 eo3) q329 q330 q47 q331 hd_J6_tan rfl ⟨Nat.le_of_ble_eq_true rfl, Nat.le_of_ble_eq_true rfl⟩ hS trivial hl.1 rfl (Nat.le_of_ble_eq_true rfl) dX1_isLawful_12 ⟨Nat.le_of_ble_eq_true rfl, Nat.le_of_ble_eq_true rfl⟩) hS (fun b H locs hp hS hz => ?_)
  obtain ⟨eb_, hO⟩ := hp
  rw [eb_]
  have hF := hF.trans (hO.mono (fun _ _ z => z.elim))
  refine lv_dstore (lv' := [(6, .double o3), (4, .double o2), (2, .double o1), (0, .double x0)]) hx hb dX1_isLawful_15 hl (by decide) rfl (fun ls hl => ?_)
  refine lv_dload_n hx hb dX1_isLawful_17 rfl (lv_at hl 3 rfl) ?_
  obtain ⟨o4, eo4, h⟩ := bind_step h
  refine r_cp (r_runS (rest := []) (As := [.double x0]) hC 1 (m_X1_isInSet   x0 o4 eo4) q354 q355 q46 q356 hd_X1_isInSet rfl ⟨Nat.le_of_ble_eq_true rfl, Nat.le_of_ble_eq_true rfl⟩ hS trivial hl.1 rfl (Nat.le_of_ble_eq_true rfl) dX1_isLawful_18 ⟨Nat.le_of_ble_eq_true rfl, Nat.le_of_ble_eq_true rfl⟩) ?_
  obtain ⟨K6, eK6, h⟩ := lt_step h
  have HK6 : ∀ (v5 : Bool) (h : K6 v5 = some r) (H : Heap) (locs : List Loc) (hS : St D s H locs) (hF : Off (fun _ => False) s.heap H) (ls : Array Slot) (hl : lv_has ls 9 [(0, .double x0), (2, .double o1), (4, .double o2), (6, .double o3)]), W p l e R_X1_isLawful s m A below meth c H locs 18 255 Q (F0 m 56 ls [.int (bI v5)]) := by
    intro v5 h H locs hS hF ls hl
    subst eK6
    refine lv_istore (lv' := [(8, .int (bI v5)), (0, .double x0), (2, .double o1), (4, .double o2), (6, .double o3)]) hx hb dX1_isLawful_56 hl (by decide) rfl (fun ls hl => ?_)
    refine lv_iload hx hb dX1_isLawful_58 (lv_at hl 0 rfl) ?_
    obtain ⟨K8, eK8, h⟩ := lt_step h
    have HK8 : ∀ (v7 : Bool) (h : K8 v7 = some r) (H : Heap) (locs : List Loc) (hS : St D s H locs) (hF : Off (fun _ => False) s.heap H) (ls : Array Slot) (hl : lv_has ls 9 [(0, .double x0), (2, .double o1), (4, .double o2), (6, .double o3)]), W p l e R_X1_isLawful s m A below meth c H locs 36 510 Q (F0 m 109 ls [.int (bI v7)]) := by
      intro v7 h H locs hS hF ls hl
      subst eK8
      refine lv_istore (lv' := [(8, .int (bI v7)), (0, .double x0), (2, .double o1), (4, .double o2), (6, .double o3)]) hx hb dX1_isLawful_109 hl (by decide) rfl (fun ls hl => ?_)
      refine lv_iload hx hb dX1_isLawful_111 (lv_at hl 0 rfl) ?_
      obtain ⟨K10, eK10, h⟩ := lt_step h
      have HK10 : ∀ (v9 : Bool) (h : K10 v9 = some r) (H : Heap) (locs : List Loc) (hS : St D s H locs) (hF : Off (fun _ => False) s.heap H) (ls : Array Slot) (hl : lv_has ls 9 [(0, .double x0), (2, .double o1), (4, .double o2)]), W p l e R_X1_isLawful s m A below meth c H locs 88 910 Q (F0 m 141 ls [.int (bI v9)]) := by
        intro v9 h H locs hS hF ls hl
        subst eK10
        refine lv_istore (lv' := [(8, .int (bI v9)), (0, .double x0), (2, .double o1), (4, .double o2)]) hx hb dX1_isLawful_141 hl (by decide) rfl (fun ls hl => ?_)
        refine lv_ldc2d hx hb (v := 4611686018427387904) hown (hts _ q903) dX1_isLawful_143 ?_
        refine lv_dload_n hx hb dX1_isLawful_146 rfl (lv_at hl 1 rfl) ?_
        obtain ⟨v11, ev11, nv11, h⟩ := ck_step h
        refine r_dmul hx hb ev11 nv11 dX1_isLawful_147 ?_
        obtain ⟨o12, eo12, h⟩ := bind_step h
        refine r_cp (r_runS (rest := []) (As := [.double v11]) hC 1 (m_X1_isInSet   v11 o12 eo12) q354 q355 q46 q356 hd_X1_isInSet rfl ⟨Nat.le_of_ble_eq_true rfl, Nat.le_of_ble_eq_true rfl⟩ hS trivial hl.1 rfl (Nat.le_of_ble_eq_true rfl) dX1_isLawful_148 ⟨Nat.le_of_ble_eq_true rfl, Nat.le_of_ble_eq_true rfl⟩) ?_
        obtain ⟨K14, eK14, h⟩ := lt_step h
        have HK14 : ∀ (v13 : Bool) (h : K14 v13 = some r) (H : Heap) (locs : List Loc) (hS : St D s H locs) (hF : Off (fun _ => False) s.heap H) (ls : Array Slot) (hl : lv_has ls 9 [(0, .double x0), (2, .double o1), (4, .double o2), (8, .int (bI v13))]), W p l e R_X1_isLawful s m A below meth c H locs 158 1540 Q (F0 m 196 ls []) := by
          intro v13 h H locs hS hF ls hl
          subst eK14
          refine lv_dload_n hx hb dX1_isLawful_196 rfl (lv_at hl 0 rfl) ?_
          obtain ⟨o15, eo15, h⟩ := bind_step h
          refine r_cp (r_runS (rest := []) (As := [.double x0]) hC 1 (m_X1_isStep   x0 o15 eo15) q907 q908 q46 q909 hd_X1_isStep rfl ⟨Nat.le_of_ble_eq_true rfl, Nat.le_of_ble_eq_true rfl⟩ hS trivial hl.1 rfl (Nat.le_of_ble_eq_true rfl) dX1_isLawful_197 ⟨Nat.le_of_ble_eq_true rfl, Nat.le_of_ble_eq_true rfl⟩) ?_
          refine r_ifz_eq (tgt := 245) hx hb dX1_isLawful_200 (by decide) (fun c16 => ?_) (fun c16 => ?_)
          · have h := it_neg h (by rw [c16]; decide)
            refine lv_iload hx hb dX1_isLawful_245 (lv_at hl 3 rfl) ?_
            obtain rfl := Option.some.inj h
            rw [eQ]
            exact r_zret hx hb hr hlk hS (narB _) (Nat.le_of_ble_eq_true rfl) (Nat.le_of_ble_eq_true rfl) dX1_isLawful_247 ⟨_, rfl, rfl, hF⟩
          · have h := it_pos h (by rw [c16])
            refine lv_iload hx hb dX1_isLawful_203 (lv_at hl 3 rfl) ?_
            refine r_ifz_eq (tgt := 242) hx hb dX1_isLawful_205 (by decide) (fun c17 => ?_) (fun c17 => ?_)
            · have h := it_neg h (by rw [c17]; decide)
              refine lv_iconst (v := 0) hx hb dX1_isLawful_242 (by decide) ?_
              refine lv_istore (lv' := [(8, .int 0), (0, .double x0), (2, .double o1), (4, .double o2)]) hx hb dX1_isLawful_243 hl (by decide) rfl (fun ls hl => ?_)
              refine lv_iload hx hb dX1_isLawful_245 (lv_at hl 0 rfl) ?_
              obtain rfl := Option.some.inj h
              rw [eQ]
              exact r_zret hx hb hr hlk hS (by decide) (Nat.le_of_ble_eq_true rfl) (Nat.le_of_ble_eq_true rfl) dX1_isLawful_247 ⟨_, rfl, rfl, hF⟩
            · have h := it_pos h (by rw [c17])
              refine lv_iconst (v := 0) hx hb dX1_isLawful_208 (by decide) ?_
              refine lv_dload_n hx hb dX1_isLawful_209 rfl (lv_at hl 0 rfl) ?_
              refine lv_ldc2d hx hb (v := 4593671619917905920) hown (hts _ q910) dX1_isLawful_210 ?_
              obtain ⟨v18, ev18, nv18, h⟩ := ck_step h
              refine r_dadd hx hb ev18 nv18 dX1_isLawful_213 ?_
              refine lv_dload_n hx hb dX1_isLawful_214 rfl (lv_at hl 1 rfl) ?_
              refine lv_dload hx hb dX1_isLawful_215 (lv_at hl 2 rfl) ?_
              obtain ⟨o19, eo19, h⟩ := bind_step h
              refine r_cz (r_runS (rest := []) (As := [.int 0, .double v18, .double o1, .double o2]) hC 4 (m_X1_isStepBy   0 v18 o1 o2 o19 eo19) q911 q912 q46 q913 hd_X1_isStepBy rfl ⟨Nat.le_of_ble_eq_true rfl, Nat.le_of_ble_eq_true rfl⟩ hS trivial hl.1 rfl (Nat.le_of_ble_eq_true rfl) dX1_isLawful_217 ⟨Nat.le_of_ble_eq_true rfl, Nat.le_of_ble_eq_true rfl⟩) hS (fun b H locs hp hS hz => ?_)
              obtain ⟨eb_, hO⟩ := hp
              rw [eb_]
              have hF := hF.trans (hO.mono (fun _ _ z => z.elim))
              refine r_ifz_eq (tgt := 242) hx hb dX1_isLawful_220 (by decide) (fun c20 => ?_) (fun c20 => ?_)
              · have h := it_neg h (by rw [c20]; decide)
                refine lv_iconst (v := 0) hx hb dX1_isLawful_242 (by decide) ?_
                refine lv_istore (lv' := [(8, .int 0), (0, .double x0), (2, .double o1), (4, .double o2)]) hx hb dX1_isLawful_243 hl (by decide) rfl (fun ls hl => ?_)
                refine lv_iload hx hb dX1_isLawful_245 (lv_at hl 0 rfl) ?_
                obtain rfl := Option.some.inj h
                rw [eQ]
                exact r_zret hx hb hr hlk hS (by decide) (Nat.le_of_ble_eq_true rfl) (Nat.le_of_ble_eq_true rfl) dX1_isLawful_247 ⟨_, rfl, rfl, hF⟩
              · have h := it_pos h (by rw [c20])
                refine lv_iconst (v := 1) hx hb dX1_isLawful_223 (by decide) ?_
                refine lv_dload_n hx hb dX1_isLawful_224 rfl (lv_at hl 0 rfl) ?_
                refine lv_ldc2d hx hb (v := 4593671619917905920) hown (hts _ q910) dX1_isLawful_225 ?_
                obtain ⟨v21, ev21, nv21, h⟩ := ck_step h
                refine r_dadd hx hb ev21 nv21 dX1_isLawful_228 ?_
                refine lv_dload_n hx hb dX1_isLawful_229 rfl (lv_at hl 1 rfl) ?_
                refine lv_dload hx hb dX1_isLawful_230 (lv_at hl 2 rfl) ?_
                obtain ⟨o22, eo22, h⟩ := bind_step h
                refine r_cz (r_runS (rest := []) (As := [.int 1, .double v21, .double o1, .double o2]) hC 4 (m_X1_isStepBy   1 v21 o1 o2 o22 eo22) q911 q912 q46 q913 hd_X1_isStepBy rfl ⟨Nat.le_of_ble_eq_true rfl, Nat.le_of_ble_eq_true rfl⟩ hS trivial hl.1 rfl (Nat.le_of_ble_eq_true rfl) dX1_isLawful_232 ⟨Nat.le_of_ble_eq_true rfl, Nat.le_of_ble_eq_true rfl⟩) hS (fun b H locs hp hS hz => ?_)
                obtain ⟨eb_, hO⟩ := hp
                rw [eb_]
                have hF := hF.trans (hO.mono (fun _ _ z => z.elim))
                refine r_ifz_eq (tgt := 242) hx hb dX1_isLawful_235 (by decide) (fun c23 => ?_) (fun c23 => ?_)
                · have h := it_neg h (by rw [c23]; decide)
                  refine lv_iconst (v := 0) hx hb dX1_isLawful_242 (by decide) ?_
                  refine lv_istore (lv' := [(8, .int 0), (0, .double x0), (2, .double o1), (4, .double o2)]) hx hb dX1_isLawful_243 hl (by decide) rfl (fun ls hl => ?_)
                  refine lv_iload hx hb dX1_isLawful_245 (lv_at hl 0 rfl) ?_
                  obtain rfl := Option.some.inj h
                  rw [eQ]
                  exact r_zret hx hb hr hlk hS (by decide) (Nat.le_of_ble_eq_true rfl) (Nat.le_of_ble_eq_true rfl) dX1_isLawful_247 ⟨_, rfl, rfl, hF⟩
                · have h := it_pos h (by rw [c23])
                  refine lv_iconst (v := 1) hx hb dX1_isLawful_238 (by decide) ?_
                  refine lv_goto (tgt := 243) hx hb dX1_isLawful_239 (by decide) ?_
                  refine lv_istore (lv' := [(8, .int 1), (0, .double x0), (2, .double o1), (4, .double o2)]) hx hb dX1_isLawful_243 hl (by decide) rfl (fun ls hl => ?_)
                  refine lv_iload hx hb dX1_isLawful_245 (lv_at hl 0 rfl) ?_
                  obtain rfl := Option.some.inj h
                  rw [eQ]
                  exact r_zret hx hb hr hlk hS (by decide) (Nat.le_of_ble_eq_true rfl) (Nat.le_of_ble_eq_true rfl) dX1_isLawful_247 ⟨_, rfl, rfl, hF⟩
        clear eK14
        refine r_ifz_eq (tgt := 196) hx hb dX1_isLawful_151 (by decide) (fun c24 => ?_) (fun c24 => ?_)
        · have h := it_neg h (by rw [c24]; decide)
          refine W.widen (k := 158) (n := 1540) (Nat.le_of_ble_eq_true rfl) (Nat.le_of_ble_eq_true rfl) ?_
          exact HK14 v9 h H locs hS hF ls (lv_sub hl [1, 2, 3, 0] rfl)
        · have h := it_pos h (by rw [c24])
          refine lv_iload hx hb dX1_isLawful_154 (lv_at hl 0 rfl) ?_
          obtain ⟨K26, eK26, h⟩ := lt_step h
          have HK26 : ∀ (v25 : Bool) (h : K26 v25 = some r) (H : Heap) (locs : List Loc) (hS : St D s H locs) (hF : Off (fun _ => False) s.heap H) (ls : Array Slot) (hl : lv_has ls 9 [(0, .double x0), (2, .double o1), (4, .double o2)]), W p l e R_X1_isLawful s m A below meth c H locs 158 1540 Q (F0 m 194 ls [.int (bI v25)]) := by
            intro v25 h H locs hS hF ls hl
            subst eK26
            refine lv_istore (lv' := [(8, .int (bI v25)), (0, .double x0), (2, .double o1), (4, .double o2)]) hx hb dX1_isLawful_194 hl (by decide) rfl (fun ls hl => ?_)
            exact HK14 v25 h H locs hS hF ls (lv_sub hl [1, 2, 3, 0] rfl)
          clear eK26
          obtain ⟨K27, eK27, h⟩ := lt_step h
          have HK27 : ∀  (h : K27 () = some r) (H : Heap) (locs : List Loc) (hS : St D s H locs) (hF : Off (fun _ => False) s.heap H) (ls : Array Slot) (hl : lv_has ls 9 [(0, .double x0), (2, .double o1), (4, .double o2)]), W p l e R_X1_isLawful s m A below meth c H locs 158 1540 Q (F0 m 193 ls []) := by
            intro h H locs hS hF ls hl
            subst eK27
            refine lv_iconst (v := 0) hx hb dX1_isLawful_193 (by decide) ?_
            exact HK26 false h H locs hS hF ls (lv_sub hl [0, 1, 2] rfl)
          clear eK27
          refine r_ifz_eq (tgt := 193) hx hb dX1_isLawful_156 (by decide) (fun c28 => ?_) (fun c28 => ?_)
          · have h := it_neg h (by rw [c28]; decide)
            refine W.widen (k := 158) (n := 1540) (Nat.le_of_ble_eq_true rfl) (Nat.le_of_ble_eq_true rfl) ?_
            exact HK27  h H locs hS hF ls (lv_sub hl [1, 2, 3] rfl)
          · have h := it_pos h (by rw [c28])
            refine lv_iconst (v := 0) hx hb dX1_isLawful_159 (by decide) ?_
            refine lv_ldc2d hx hb (v := 4611686018427387904) hown (hts _ q903) dX1_isLawful_160 ?_
            refine lv_dload_n hx hb dX1_isLawful_163 rfl (lv_at hl 1 rfl) ?_
            obtain ⟨v29, ev29, nv29, h⟩ := ck_step h
            refine r_dmul hx hb ev29 nv29 dX1_isLawful_164 ?_
            refine lv_dload_n hx hb dX1_isLawful_165 rfl (lv_at hl 2 rfl) ?_
            refine lv_dload hx hb dX1_isLawful_166 (lv_at hl 3 rfl) ?_
            obtain ⟨o30, eo30, h⟩ := bind_step h
            refine r_cz (r_runS (rest := []) (As := [.int 0, .double v29, .double o1, .double o2]) hC 4 (m_X1_isTwiceBy   0 v29 o1 o2 o30 eo30) q904 q905 q46 q906 hd_X1_isTwiceBy rfl ⟨Nat.le_of_ble_eq_true rfl, Nat.le_of_ble_eq_true rfl⟩ hS trivial hl.1 rfl (Nat.le_of_ble_eq_true rfl) dX1_isLawful_168 ⟨Nat.le_of_ble_eq_true rfl, Nat.le_of_ble_eq_true rfl⟩) hS (fun b H locs hp hS hz => ?_)
            obtain ⟨eb_, hO⟩ := hp
            rw [eb_]
            have hF := hF.trans (hO.mono (fun _ _ z => z.elim))
            refine r_ifz_eq (tgt := 193) hx hb dX1_isLawful_171 (by decide) (fun c31 => ?_) (fun c31 => ?_)
            · have h := it_neg h (by rw [c31]; decide)
              refine W.widen (k := 158) (n := 1540) (Nat.le_of_ble_eq_true rfl) (Nat.le_of_ble_eq_true rfl) ?_
              exact HK27  h H locs hS hF ls (lv_sub hl [1, 2, 3] rfl)
            · have h := it_pos h (by rw [c31])
              refine lv_iconst (v := 1) hx hb dX1_isLawful_174 (by decide) ?_
              refine lv_ldc2d hx hb (v := 4611686018427387904) hown (hts _ q903) dX1_isLawful_175 ?_
              refine lv_dload_n hx hb dX1_isLawful_178 rfl (lv_at hl 1 rfl) ?_
              obtain ⟨v32, ev32, nv32, h⟩ := ck_step h
              refine r_dmul hx hb ev32 nv32 dX1_isLawful_179 ?_
              refine lv_dload_n hx hb dX1_isLawful_180 rfl (lv_at hl 2 rfl) ?_
              refine lv_dload hx hb dX1_isLawful_181 (lv_at hl 3 rfl) ?_
              obtain ⟨o33, eo33, h⟩ := bind_step h
              refine r_cz (r_runS (rest := []) (As := [.int 1, .double v32, .double o1, .double o2]) hC 4 (m_X1_isTwiceBy   1 v32 o1 o2 o33 eo33) q904 q905 q46 q906 hd_X1_isTwiceBy rfl ⟨Nat.le_of_ble_eq_true rfl, Nat.le_of_ble_eq_true rfl⟩ hS trivial hl.1 rfl (Nat.le_of_ble_eq_true rfl) dX1_isLawful_183 ⟨Nat.le_of_ble_eq_true rfl, Nat.le_of_ble_eq_true rfl⟩) hS (fun b H locs hp hS hz => ?_)
              obtain ⟨eb_, hO⟩ := hp
              rw [eb_]
              have hF := hF.trans (hO.mono (fun _ _ z => z.elim))
              refine r_ifz_eq (tgt := 193) hx hb dX1_isLawful_186 (by decide) (fun c34 => ?_) (fun c34 => ?_)
              · have h := it_neg h (by rw [c34]; decide)
                exact HK27  h H locs hS hF ls (lv_sub hl [1, 2, 3] rfl)
              · have h := it_pos h (by rw [c34])
                refine lv_iconst (v := 1) hx hb dX1_isLawful_189 (by decide) ?_
                refine lv_goto (tgt := 194) hx hb dX1_isLawful_190 (by decide) ?_
                exact HK26 true h H locs hS hF ls (lv_sub hl [1, 2, 3] rfl)
      clear eK10
      obtain ⟨K35, eK35, h⟩ := lt_step h
      have HK35 : ∀  (h : K35 () = some r) (H : Heap) (locs : List Loc) (hS : St D s H locs) (hF : Off (fun _ => False) s.heap H) (ls : Array Slot) (hl : lv_has ls 9 [(0, .double x0), (2, .double o1), (4, .double o2)]), W p l e R_X1_isLawful s m A below meth c H locs 88 910 Q (F0 m 140 ls []) := by
        intro h H locs hS hF ls hl
        subst eK35
        refine lv_iconst (v := 0) hx hb dX1_isLawful_140 (by decide) ?_
        exact HK10 false h H locs hS hF ls (lv_sub hl [0, 1, 2] rfl)
      clear eK35
      refine r_ifz_eq (tgt := 140) hx hb dX1_isLawful_113 (by decide) (fun c36 => ?_) (fun c36 => ?_)
      · have h := it_neg h (by rw [c36]; decide)
        refine W.widen (k := 88) (n := 910) (Nat.le_of_ble_eq_true rfl) (Nat.le_of_ble_eq_true rfl) ?_
        exact HK35  h H locs hS hF ls (lv_sub hl [1, 2, 3] rfl)
      · have h := it_pos h (by rw [c36])
        refine lv_dload_n hx hb dX1_isLawful_116 rfl (lv_at hl 2 rfl) ?_
        refine lv_dload hx hb dX1_isLawful_117 (lv_at hl 3 rfl) ?_
        obtain ⟨o37, eo37, h⟩ := bind_step h
        refine r_cz (r_runS (rest := []) (As := [.double o1, .double o2]) hC 2 (m_X1_isRoundBy   o1 o2 o37 eo37) q406 q407 q46 q408 hd_X1_isRoundBy rfl ⟨Nat.le_of_ble_eq_true rfl, Nat.le_of_ble_eq_true rfl⟩ hS trivial hl.1 rfl (Nat.le_of_ble_eq_true rfl) dX1_isLawful_119 ⟨Nat.le_of_ble_eq_true rfl, Nat.le_of_ble_eq_true rfl⟩) hS (fun b H locs hp hS hz => ?_)
        obtain ⟨eb_, hO⟩ := hp
        rw [eb_]
        have hF := hF.trans (hO.mono (fun _ _ z => z.elim))
        refine r_ifz_eq (tgt := 140) hx hb dX1_isLawful_122 (by decide) (fun c38 => ?_) (fun c38 => ?_)
        · have h := it_neg h (by rw [c38]; decide)
          refine W.widen (k := 88) (n := 910) (Nat.le_of_ble_eq_true rfl) (Nat.le_of_ble_eq_true rfl) ?_
          exact HK35  h H locs hS hF ls (lv_sub hl [1, 2, 3] rfl)
        · have h := it_pos h (by rw [c38])
          refine lv_dload_n hx hb dX1_isLawful_125 rfl (lv_at hl 2 rfl) ?_
          refine lv_dload hx hb dX1_isLawful_126 (lv_at hl 3 rfl) ?_
          refine lv_dload hx hb dX1_isLawful_128 (lv_at hl 4 rfl) ?_
          obtain ⟨o39, eo39, h⟩ := bind_step h
          refine r_cz (r_runS (rest := []) (As := [.double o1, .double o2, .double o3]) hC 3 (m_X1_isSlopeBy   o1 o2 o3 o39 eo39) q897 q898 q46 q899 hd_X1_isSlopeBy rfl ⟨Nat.le_of_ble_eq_true rfl, Nat.le_of_ble_eq_true rfl⟩ hS trivial hl.1 rfl (Nat.le_of_ble_eq_true rfl) dX1_isLawful_130 ⟨Nat.le_of_ble_eq_true rfl, Nat.le_of_ble_eq_true rfl⟩) hS (fun b H locs hp hS hz => ?_)
          obtain ⟨eb_, hO⟩ := hp
          rw [eb_]
          have hF := hF.trans (hO.mono (fun _ _ z => z.elim))
          refine r_ifz_eq (tgt := 140) hx hb dX1_isLawful_133 (by decide) (fun c40 => ?_) (fun c40 => ?_)
          · have h := it_neg h (by rw [c40]; decide)
            exact HK35  h H locs hS hF ls (lv_sub hl [1, 2, 3] rfl)
          · have h := it_pos h (by rw [c40])
            refine lv_iconst (v := 1) hx hb dX1_isLawful_136 (by decide) ?_
            refine lv_goto (tgt := 141) hx hb dX1_isLawful_137 (by decide) ?_
            exact HK10 true h H locs hS hF ls (lv_sub hl [1, 2, 3] rfl)
    clear eK8
    obtain ⟨K41, eK41, h⟩ := lt_step h
    have HK41 : ∀  (h : K41 () = some r) (H : Heap) (locs : List Loc) (hS : St D s H locs) (hF : Off (fun _ => False) s.heap H) (ls : Array Slot) (hl : lv_has ls 9 [(0, .double x0), (2, .double o1), (4, .double o2), (6, .double o3)]), W p l e R_X1_isLawful s m A below meth c H locs 36 510 Q (F0 m 108 ls []) := by
      intro h H locs hS hF ls hl
      subst eK41
      refine lv_iconst (v := 0) hx hb dX1_isLawful_108 (by decide) ?_
      exact HK8 false h H locs hS hF ls (lv_sub hl [0, 1, 2, 3] rfl)
    clear eK41
    refine r_ifz_eq (tgt := 108) hx hb dX1_isLawful_60 (by decide) (fun c42 => ?_) (fun c42 => ?_)
    · have h := it_neg h (by rw [c42]; decide)
      refine W.widen (k := 36) (n := 510) (Nat.le_of_ble_eq_true rfl) (Nat.le_of_ble_eq_true rfl) ?_
      exact HK41  h H locs hS hF ls (lv_sub hl [1, 2, 3, 4] rfl)
    · have h := it_pos h (by rw [c42])
      refine lv_iconst (v := 0) hx hb dX1_isLawful_63 (by decide) ?_
      refine lv_dload_n hx hb dX1_isLawful_64 rfl (lv_at hl 1 rfl) ?_
      obtain ⟨v43, ev43, h⟩ := ltd_step h
      refine r_dneg hx hb ev43 dX1_isLawful_65 ?_
      obtain ⟨o44, eo44, h⟩ := bind_step h
      refine r_cd (r_runS (rest := [.int 0]) (As := [.double v43]) hC 1 (m_J6_sin v43  o44 eo44) q173 q174 q47 q175 hd_J6_sin rfl ⟨Nat.le_of_ble_eq_true rfl, Nat.le_of_ble_eq_true rfl⟩ hS trivial hl.1 rfl (Nat.le_of_ble_eq_true rfl) dX1_isLawful_66 ⟨Nat.le_of_ble_eq_true rfl, Nat.le_of_ble_eq_true rfl⟩) hS (fun b H locs hp hS hz => ?_)
      obtain ⟨eb_, hO⟩ := hp
      rw [eb_]
      have hF := hF.trans (hO.mono (fun _ _ z => z.elim))
      refine lv_dload_n hx hb dX1_isLawful_69 rfl (lv_at hl 2 rfl) ?_
      obtain ⟨o45, eo45, h⟩ := bind_step h
      refine r_cp (r_runS (rest := []) (As := [.int 0, .double o44, .double o1]) hC 3 (m_X1_isMirror   0 o44 o1 o45 eo45) q402 q403 q46 q404 hd_X1_isMirror rfl ⟨Nat.le_of_ble_eq_true rfl, Nat.le_of_ble_eq_true rfl⟩ hS trivial hl.1 rfl (Nat.le_of_ble_eq_true rfl) dX1_isLawful_70 ⟨Nat.le_of_ble_eq_true rfl, Nat.le_of_ble_eq_true rfl⟩) ?_
      refine r_ifz_eq (tgt := 108) hx hb dX1_isLawful_73 (by decide) (fun c46 => ?_) (fun c46 => ?_)
      · have h := it_neg h (by rw [c46]; decide)
        refine W.widen (k := 36) (n := 510) (Nat.le_of_ble_eq_true rfl) (Nat.le_of_ble_eq_true rfl) ?_
        exact HK41  h H locs hS hF ls (lv_sub hl [1, 2, 3, 4] rfl)
      · have h := it_pos h (by rw [c46])
        refine lv_iconst (v := 1) hx hb dX1_isLawful_76 (by decide) ?_
        refine lv_dload_n hx hb dX1_isLawful_77 rfl (lv_at hl 1 rfl) ?_
        obtain ⟨v47, ev47, h⟩ := ltd_step h
        refine r_dneg hx hb ev47 dX1_isLawful_78 ?_
        obtain ⟨o48, eo48, h⟩ := bind_step h
        refine r_cd (r_runS (rest := [.int 1]) (As := [.double v47]) hC 1 (m_J6_cos v47  o48 eo48) q318 q319 q47 q320 hd_J6_cos rfl ⟨Nat.le_of_ble_eq_true rfl, Nat.le_of_ble_eq_true rfl⟩ hS trivial hl.1 rfl (Nat.le_of_ble_eq_true rfl) dX1_isLawful_79 ⟨Nat.le_of_ble_eq_true rfl, Nat.le_of_ble_eq_true rfl⟩) hS (fun b H locs hp hS hz => ?_)
        obtain ⟨eb_, hO⟩ := hp
        rw [eb_]
        have hF := hF.trans (hO.mono (fun _ _ z => z.elim))
        refine lv_dload hx hb dX1_isLawful_82 (lv_at hl 3 rfl) ?_
        obtain ⟨o49, eo49, h⟩ := bind_step h
        refine r_cp (r_runS (rest := []) (As := [.int 1, .double o48, .double o2]) hC 3 (m_X1_isMirror   1 o48 o2 o49 eo49) q402 q403 q46 q404 hd_X1_isMirror rfl ⟨Nat.le_of_ble_eq_true rfl, Nat.le_of_ble_eq_true rfl⟩ hS trivial hl.1 rfl (Nat.le_of_ble_eq_true rfl) dX1_isLawful_84 ⟨Nat.le_of_ble_eq_true rfl, Nat.le_of_ble_eq_true rfl⟩) ?_
        refine r_ifz_eq (tgt := 108) hx hb dX1_isLawful_87 (by decide) (fun c50 => ?_) (fun c50 => ?_)
        · have h := it_neg h (by rw [c50]; decide)
          refine W.widen (k := 36) (n := 510) (Nat.le_of_ble_eq_true rfl) (Nat.le_of_ble_eq_true rfl) ?_
          exact HK41  h H locs hS hF ls (lv_sub hl [1, 2, 3, 4] rfl)
        · have h := it_pos h (by rw [c50])
          refine lv_iconst (v := 2) hx hb dX1_isLawful_90 (by decide) ?_
          refine lv_dload_n hx hb dX1_isLawful_91 rfl (lv_at hl 1 rfl) ?_
          obtain ⟨v51, ev51, h⟩ := ltd_step h
          refine r_dneg hx hb ev51 dX1_isLawful_92 ?_
          obtain ⟨o52, eo52, h⟩ := bind_step h
          refine r_cd (r_runS (rest := [.int 2]) (As := [.double v51]) hC 1 (m_J6_tan v51  o52 eo52) q329 q330 q47 q331 hd_J6_tan rfl ⟨Nat.le_of_ble_eq_true rfl, Nat.le_of_ble_eq_true rfl⟩ hS trivial hl.1 rfl (Nat.le_of_ble_eq_true rfl) dX1_isLawful_93 ⟨Nat.le_of_ble_eq_true rfl, Nat.le_of_ble_eq_true rfl⟩) hS (fun b H locs hp hS hz => ?_)
          obtain ⟨eb_, hO⟩ := hp
          rw [eb_]
          have hF := hF.trans (hO.mono (fun _ _ z => z.elim))
          refine lv_dload hx hb dX1_isLawful_96 (lv_at hl 4 rfl) ?_
          obtain ⟨o53, eo53, h⟩ := bind_step h
          refine r_cp (r_runS (rest := []) (As := [.int 2, .double o52, .double o3]) hC 3 (m_X1_isMirror   2 o52 o3 o53 eo53) q402 q403 q46 q404 hd_X1_isMirror rfl ⟨Nat.le_of_ble_eq_true rfl, Nat.le_of_ble_eq_true rfl⟩ hS trivial hl.1 rfl (Nat.le_of_ble_eq_true rfl) dX1_isLawful_98 ⟨Nat.le_of_ble_eq_true rfl, Nat.le_of_ble_eq_true rfl⟩) ?_
          refine r_ifz_eq (tgt := 108) hx hb dX1_isLawful_101 (by decide) (fun c54 => ?_) (fun c54 => ?_)
          · have h := it_neg h (by rw [c54]; decide)
            exact HK41  h H locs hS hF ls (lv_sub hl [1, 2, 3, 4] rfl)
          · have h := it_pos h (by rw [c54])
            refine lv_iconst (v := 1) hx hb dX1_isLawful_104 (by decide) ?_
            refine lv_goto (tgt := 109) hx hb dX1_isLawful_105 (by decide) ?_
            exact HK8 true h H locs hS hF ls (lv_sub hl [1, 2, 3, 4] rfl)
  clear eK6
  obtain ⟨K55, eK55, h⟩ := lt_step h
  have HK55 : ∀  (h : K55 () = some r) (H : Heap) (locs : List Loc) (hS : St D s H locs) (hF : Off (fun _ => False) s.heap H) (ls : Array Slot) (hl : lv_has ls 9 [(0, .double x0), (2, .double o1), (4, .double o2), (6, .double o3)]), W p l e R_X1_isLawful s m A below meth c H locs 18 255 Q (F0 m 55 ls []) := by
    intro h H locs hS hF ls hl
    subst eK55
    refine lv_iconst (v := 0) hx hb dX1_isLawful_55 (by decide) ?_
    exact HK6 false h H locs hS hF ls (lv_sub hl [0, 1, 2, 3] rfl)
  clear eK55
  refine r_ifz_eq (tgt := 55) hx hb dX1_isLawful_21 (by decide) (fun c56 => ?_) (fun c56 => ?_)
  · have h := it_neg h (by rw [c56]; decide)
    exact HK55  h H locs hS hF ls (lv_sub hl [3, 2, 1, 0] rfl)
  · have h := it_pos h (by rw [c56])
    refine lv_dload_n hx hb dX1_isLawful_24 rfl (lv_at hl 2 rfl) ?_
    refine lv_iconst (v := 0) hx hb dX1_isLawful_25 (by decide) ?_
    obtain ⟨o57, eo57, h⟩ := bind_step h
    refine r_cp (r_runS (rest := []) (As := [.double o1, .int 0]) hC 2 (m_X1_isInside   o1 false o57 eo57) q398 q399 q46 q400 hd_X1_isInside rfl ⟨Nat.le_of_ble_eq_true rfl, Nat.le_of_ble_eq_true rfl⟩ hS trivial hl.1 rfl (Nat.le_of_ble_eq_true rfl) dX1_isLawful_26 ⟨Nat.le_of_ble_eq_true rfl, Nat.le_of_ble_eq_true rfl⟩) ?_
    refine r_ifz_eq (tgt := 55) hx hb dX1_isLawful_29 (by decide) (fun c58 => ?_) (fun c58 => ?_)
    · have h := it_neg h (by rw [c58]; decide)
      exact HK55  h H locs hS hF ls (lv_sub hl [3, 2, 1, 0] rfl)
    · have h := it_pos h (by rw [c58])
      refine lv_dload hx hb dX1_isLawful_32 (lv_at hl 1 rfl) ?_
      refine lv_dload_n hx hb dX1_isLawful_34 rfl (lv_at hl 3 rfl) ?_
      refine lv_dconst0 hx hb dX1_isLawful_35 ?_
      obtain ⟨v59, ev59, h⟩ := lti_step h
      refine r_dcmp hx hb ev59 dX1_isLawful_36 ?_
      obtain ⟨K61, eK61, h⟩ := lt_step h
      have HK61 : ∀ (v60 : Bool) (h : K61 v60 = some r) (H : Heap) (locs : List Loc) (hS : St D s H locs) (hF : Off (fun _ => False) s.heap H) (ls : Array Slot) (hl : lv_has ls 9 [(0, .double x0), (2, .double o1), (4, .double o2), (6, .double o3)]), W p l e R_X1_isLawful s m A below meth c H locs 18 255 Q (F0 m 45 ls [.int (bI v60), .double o2]) := by
        intro v60 h H locs hS hF ls hl
        subst eK61
        obtain ⟨o62, eo62, h⟩ := bind_step h
        refine r_cp (r_runS (rest := []) (As := [.double o2, .int (bI v60)]) hC 2 (m_X1_isInside   o2 v60 o62 eo62) q398 q399 q46 q400 hd_X1_isInside rfl ⟨Nat.le_of_ble_eq_true rfl, Nat.le_of_ble_eq_true rfl⟩ hS trivial hl.1 rfl (Nat.le_of_ble_eq_true rfl) dX1_isLawful_45 ⟨Nat.le_of_ble_eq_true rfl, Nat.le_of_ble_eq_true rfl⟩) ?_
        refine r_ifz_eq (tgt := 55) hx hb dX1_isLawful_48 (by decide) (fun c63 => ?_) (fun c63 => ?_)
        · have h := it_neg h (by rw [c63]; decide)
          exact HK55  h H locs hS hF ls (lv_sub hl [0, 1, 2, 3] rfl)
        · have h := it_pos h (by rw [c63])
          refine lv_iconst (v := 1) hx hb dX1_isLawful_51 (by decide) ?_
          refine lv_goto (tgt := 56) hx hb dX1_isLawful_52 (by decide) ?_
          exact HK6 true h H locs hS hF ls (lv_sub hl [0, 1, 2, 3] rfl)
      clear eK61
      refine lv_if_ne (tgt := 44) hx hb dX1_isLawful_37 (by decide) (fun c64 => ?_) (fun c64 => ?_)
      · have h := it_neg h c64
        refine lv_iconst (v := 0) hx hb dX1_isLawful_44 (by decide) ?_
        exact HK61 false h H locs hS hF ls (lv_sub hl [3, 2, 1, 0] rfl)
      · have h := it_pos h c64
        refine lv_iconst (v := 1) hx hb dX1_isLawful_40 (by decide) ?_
        refine lv_goto (tgt := 45) hx hb dX1_isLawful_41 (by decide) ?_
        exact HK61 true h H locs hS hF ls (lv_sub hl [3, 2, 1, 0] rfl)

abbrev R_X1_anglePut : Room := { frames := 11, cells := 268, slots := 2614, locals := 1469 }
noncomputable def f_X1_anglePut (x0r0c : Nat → UInt64) (x0r1c : Nat → UInt64) (x0r2c : Nat → Int32) (x0f3 : Int32) (x0f4 : Int32) (x0f5 : Int32) (x0f6 : Int32) (x1 : Int32) (x2 : UInt64) : Option (Int32 × Int32 × (Nat → UInt64) × (Nat → Int32)) :=
  Option.bind (f_X1_mustBeCell x1) fun o1 =>
  gd 8 x1 fun i2 =>
  ltd (x0r0c i2) fun v3 =>
  gd 8 x1 fun i4 =>
  lt (va_up x0r0c i4 x2) fun f5 =>
  Option.bind (f_X1_isLawful x2) fun o6 =>
  gd 8 x1 fun i7 =>
  lt (va_up x0r2c i7 (bI o6)) fun f8 =>
  lti (x0f3 + 1) fun v9 =>
  Option.bind (f_X1_isSame v3 x2) fun o10 =>
  (if o10 = true then
    Option.bind (f_X1_bit false) fun o12 =>
    some (o12, v9, f5, f8)
  else
    Option.bind (f_X1_bit true) fun o13 =>
    some (o13, v9, f5, f8)
  )
theorem hd_X1_anglePut : Hd yX1_anglePut 2 := by unfold Hd; decide +kernel
set_option maxHeartbeats 4000000 in
set_option maxRecDepth 100000 in
theorem m_X1_anglePut {l : Launch} {D : DD} (x0 : Nat) (x0r0 : Nat) (x0r1 : Nat) (x0r2 : Nat)  (x0r0c : Nat → UInt64) (x0r1c : Nat → UInt64) (x0r2c : Nat → Int32) (x0f3 : Int32) (x0f4 : Int32) (x0f5 : Int32) (x0f6 : Int32) (x1 : Int32) (x2 : UInt64) (r : Int32 × Int32 × (Nat → UInt64) × (Nat → Int32)) (h : f_X1_anglePut x0r0c x0r1c x0r2c x0f3 x0f4 x0f5 x0f6 x1 x2 = some r) : MT l D yX1_anglePut cX1_anglePut 6 (some .int) 11 1469 268 2614 [.ref x0, .int x1, .double x2] (fun H => ON D 0 x0 [.ref x0r0, .ref x0r1, .ref x0r2, .int x0f3, .int x0f4, .int x0f5, .int x0f6] H ∧ dB D ≤ x0 ∧ aD D x0r0 8 x0r0c H ∧ dB D ≤ x0r0 ∧ aD D x0r1 8 x0r1c H ∧ aZ D x0r2 8 x0r2c H ∧ dB D ≤ x0r2 ∧ x0 ≠ x0r0 ∧ x0 ≠ x0r1 ∧ x0 ≠ x0r2 ∧ x0r0 ≠ x0r1 ∧ x0r0 ≠ x0r2 ∧ x0r1 ≠ x0r2) (pI (fun H b H' => b = r.1 ∧ ON D 0 x0 [.ref x0r0, .ref x0r1, .ref x0r2, .int r.2.1, .int x0f4, .int x0f5, .int x0f6] H' ∧ aD D x0r0 8 r.2.2.1 H' ∧ aZ D x0r2 8 r.2.2.2 H' ∧ Off (fun a => a = x0 ∨ a = x0r0 ∨ a = x0r2) H H')) := by
  refine MT.start (by decide +kernel) (Nat.le_of_ble_eq_true rfl) ?_
  intro p e s m below meth c ls hC hS hp hl
  obtain ⟨h_x0, hB_h_x0, h_x0r0, hB_h_x0r0, h_x0r1, h_x0r2, hB_h_x0r2, ne_x0_x0r0, ne_x0_x0r1, ne_x0_x0r2, ne_x0r0_x0r1, ne_x0r0_x0r2, ne_x0r1_x0r2⟩ := hp
  obtain ⟨hx, hb, hr, hlk, hml, hown, hts, hnm⟩ := id hC
  have hl : lv_has ls 6 [(0, .ref x0), (1, .int x1), (2, .double x2)] := hl
  unfold f_X1_anglePut at h
  have hS0 := hS
  obtain ⟨A, eA⟩ : ∃ A : Array Value, A = [.ref x0, .int x1, .double x2].toArray := ⟨_, rfl⟩
  rw [← eA] at hC hts ⊢
  obtain ⟨Q, eQ⟩ : ∃ Q : State → Prop, Q = MQ below (TQ D (pI (fun H b H' => b = r.1 ∧ ON D 0 x0 [.ref x0r0, .ref x0r1, .ref x0r2, .int r.2.1, .int x0f4, .int x0f5, .int x0f6] H' ∧ aD D x0r0 8 r.2.2.1 H' ∧ aZ D x0r2 8 r.2.2.2 H' ∧ Off (fun a => a = x0 ∨ a = x0r0 ∨ a = x0r2) H H'))) A s 268 2614 (fun q => dB D ≤ q) := ⟨_, rfl⟩
  have hF : Off (fun a => a = x0 ∨ a = x0r0 ∨ a = x0r2) s.heap s.heap := Off.rf
  show W p l e R_X1_anglePut s m A below meth c s.heap [] 0 0 _ _
  rw [← eQ]
  obtain ⟨H, eH⟩ : ∃ H : Heap, H = s.heap := ⟨_, rfl⟩
  obtain ⟨locs, eLc⟩ : ∃ L : List Loc, L = [] := ⟨_, rfl⟩
  have lt_h_x0 := h_x0.lt
  have lt_h_x0r0 := h_x0r0.lt
  have lt_h_x0r1 := h_x0r1.lt
  have lt_h_x0r2 := h_x0r2.lt
  rw [← eH, ← eLc]
  have hF : Off (fun a => a = x0 ∨ a = x0r0 ∨ a = x0r2) s.heap H := by rw [eH]; exact hF
  rw [← eH] at h_x0
  rw [← eH] at h_x0r0
  rw [← eH] at h_x0r1
  rw [← eH] at h_x0r2
  have hS : St D s H locs := by rw [eH, eLc]; exact hS
  refine lv_iload_n hx hb dX1_anglePut_0 rfl (lv_at hl 1 rfl) ?_
  obtain ⟨o1, eo1, h⟩ := bind_step h
  refine r_cpv (r_runS (rest := []) (As := [.int x1]) hC 1 (m_X1_mustBeCell   x1 o1 eo1) q956 q957 q46 q958 hd_X1_mustBeCell rfl ⟨Nat.le_of_ble_eq_true rfl, Nat.le_of_ble_eq_true rfl⟩ hS trivial hl.1 rfl (Nat.le_of_ble_eq_true rfl) dX1_anglePut_1 ⟨Nat.le_of_ble_eq_true rfl, Nat.le_of_ble_eq_true rfl⟩) ?_
  refine lv_aload_n hx hb dX1_anglePut_4 rfl (lv_at hl 0 rfl) ?_
  refine r_get hx hb hts hown hS h_x0.OA rfl in_X1 0 (by decide) q914 rfl (v := .ref x0r0) rfl dX1_anglePut_5 ?_
  refine lv_iload_n hx hb dX1_anglePut_8 rfl (lv_at hl 1 rfl) ?_
  obtain ⟨i2, xi2, h⟩ := gd_step (by decide) h
  refine r_dald hx hb hS h_x0r0 i2 xi2 dX1_anglePut_9 ?_
  obtain ⟨v3, ev3, h⟩ := ltd_step h
  refine r_nmD ev3 ?_
  refine lv_dstore (lv' := [(4, .double v3), (0, .ref x0), (1, .int x1), (2, .double x2)]) hx hb dX1_anglePut_10 hl (by decide) rfl (fun ls hl => ?_)
  refine lv_aload_n hx hb dX1_anglePut_12 rfl (lv_at hl 1 rfl) ?_
  refine r_get hx hb hts hown hS h_x0.OA rfl in_X1 0 (by decide) q914 rfl (v := .ref x0r0) rfl dX1_anglePut_13 ?_
  refine lv_iload_n hx hb dX1_anglePut_16 rfl (lv_at hl 2 rfl) ?_
  refine lv_dload_n hx hb dX1_anglePut_17 rfl (lv_at hl 3 rfl) ?_
  obtain ⟨i4, xi4, h⟩ := gd_step (by decide) h
  obtain ⟨f5, ef5, h⟩ := lt_step h
  refine r_dast hx hb hS h_x0r0 hB_h_x0r0 i4 xi4 dX1_anglePut_18 (fun H locs hS hO h_x0r0 => ?_)
  have h_x0r0 : aD D x0r0 8 f5 H := by rw [ef5]; exact h_x0r0
  have h_x0 := h_x0.off hO ne_x0_x0r0
  have h_x0r1 := h_x0r1.off hO (Ne.symm ne_x0r0_x0r1)
  have h_x0r2 := h_x0r2.off hO (Ne.symm ne_x0r0_x0r2)
  have hF := hF.fresh hO (fun a ha z => Or.inr (Or.inl z))
  refine lv_aload_n hx hb dX1_anglePut_19 rfl (lv_at hl 1 rfl) ?_
  refine r_get hx hb hts hown hS h_x0.OA rfl in_X1 2 (by decide) q916 rfl (v := .ref x0r2) rfl dX1_anglePut_20 ?_
  refine lv_iload_n hx hb dX1_anglePut_23 rfl (lv_at hl 2 rfl) ?_
  refine lv_dload_n hx hb dX1_anglePut_24 rfl (lv_at hl 3 rfl) ?_
  obtain ⟨o6, eo6, h⟩ := bind_step h
  refine r_cz (r_runS (rest := [.int x1, .ref x0r2]) (As := [.double x2]) hC 1 (m_X1_isLawful   x2 o6 eo6) q170 q171 q46 q172 hd_X1_isLawful rfl ⟨Nat.le_of_ble_eq_true rfl, Nat.le_of_ble_eq_true rfl⟩ hS trivial hl.1 rfl (Nat.le_of_ble_eq_true rfl) dX1_anglePut_25 ⟨Nat.le_of_ble_eq_true rfl, Nat.le_of_ble_eq_true rfl⟩) hS (fun b H locs hp hS hz => ?_)
  obtain ⟨eb_, hO⟩ := hp
  rw [eb_]
  have h_x0 := h_x0.ext hO
  have h_x0r0 := h_x0r0.ext hO
  have h_x0r1 := h_x0r1.ext hO
  have h_x0r2 := h_x0r2.ext hO
  have hF := hF.trans (hO.mono (fun _ _ z => z.elim))
  obtain ⟨i7, xi7, h⟩ := gd_step (by decide) h
  obtain ⟨f8, ef8, h⟩ := lt_step h
  refine r_zast hx hb hS h_x0r2 hB_h_x0r2 i7 xi7 (narB _) dX1_anglePut_28 (fun H locs hS hO h_x0r2 => ?_)
  have h_x0r2 : aZ D x0r2 8 f8 H := by rw [ef8]; exact h_x0r2
  have h_x0 := h_x0.off hO ne_x0_x0r2
  have h_x0r0 := h_x0r0.off hO ne_x0r0_x0r2
  have h_x0r1 := h_x0r1.off hO ne_x0r1_x0r2
  have hF := hF.fresh hO (fun a ha z => Or.inr (Or.inr (z)))
  refine lv_aload_n hx hb dX1_anglePut_29 rfl (lv_at hl 1 rfl) ?_
  refine lv_dup hx hb dX1_anglePut_30 rfl ?_
  refine r_get hx hb hts hown hS h_x0.OA rfl in_X1 3 (by decide) q917 rfl (v := .int x0f3) rfl dX1_anglePut_31 ?_
  refine lv_iconst (v := 1) hx hb dX1_anglePut_34 (by decide) ?_
  obtain ⟨v9, ev9, h⟩ := lti_step h
  refine r_iadd hx hb ev9 dX1_anglePut_35 ?_
  refine r_put hx hb hts hown hS h_x0 hB_h_x0 rfl in_X1 tyX1 tyX1_ok nmX1 3 (Nat.le_of_ble_eq_true rfl) rfl q917 rfl rfl (v := .int v9) rfl (by rfl) dX1_anglePut_36 (fun H locs hS hO h_x0 => ?_)
  have h_x0 : ON D 0 x0 [.ref x0r0, .ref x0r1, .ref x0r2, .int v9, .int x0f4, .int x0f5, .int x0f6] H := h_x0
  have h_x0r0 := h_x0r0.off hO (Ne.symm ne_x0_x0r0)
  have h_x0r1 := h_x0r1.off hO (Ne.symm ne_x0_x0r1)
  have h_x0r2 := h_x0r2.off hO (Ne.symm ne_x0_x0r2)
  have hF := hF.fresh hO (fun a ha z => Or.inl z)
  refine lv_dload hx hb dX1_anglePut_39 (lv_at hl 0 rfl) ?_
  refine lv_dload_n hx hb dX1_anglePut_41 rfl (lv_at hl 3 rfl) ?_
  obtain ⟨o10, eo10, h⟩ := bind_step h
  refine r_cp (r_runS (rest := []) (As := [.double v3, .double x2]) hC 2 (m_X1_isSame   v3 x2 o10 eo10) q1273 q1274 q46 q1275 hd_X1_isSame rfl ⟨Nat.le_of_ble_eq_true rfl, Nat.le_of_ble_eq_true rfl⟩ hS trivial hl.1 rfl (Nat.le_of_ble_eq_true rfl) dX1_anglePut_42 ⟨Nat.le_of_ble_eq_true rfl, Nat.le_of_ble_eq_true rfl⟩) ?_
  refine r_ifz_ne (tgt := 52) hx hb dX1_anglePut_45 (by decide) (fun c11 => ?_) (fun c11 => ?_)
  · have h := it_pos h (by rw [c11])
    refine lv_iconst (v := 0) hx hb dX1_anglePut_52 (by decide) ?_
    obtain ⟨o12, eo12, h⟩ := bind_step h
    refine r_cp (r_runS (rest := []) (As := [.int 0]) hC 1 (m_X1_bit   false o12 eo12) q389 q390 q46 q391 hd_X1_bit rfl ⟨Nat.le_of_ble_eq_true rfl, Nat.le_of_ble_eq_true rfl⟩ hS trivial hl.1 rfl (Nat.le_of_ble_eq_true rfl) dX1_anglePut_53 ⟨Nat.le_of_ble_eq_true rfl, Nat.le_of_ble_eq_true rfl⟩) ?_
    obtain rfl := Option.some.inj h
    rw [eQ]
    exact r_iret hx hb hr hlk hS (Nat.le_of_ble_eq_true rfl) (Nat.le_of_ble_eq_true rfl) dX1_anglePut_56 ⟨_, rfl, rfl, h_x0, h_x0r0, h_x0r2, hF⟩
  · have h := it_neg h (by rw [c11]; decide)
    refine lv_iconst (v := 1) hx hb dX1_anglePut_48 (by decide) ?_
    refine lv_goto (tgt := 53) hx hb dX1_anglePut_49 (by decide) ?_
    obtain ⟨o13, eo13, h⟩ := bind_step h
    refine r_cp (r_runS (rest := []) (As := [.int 1]) hC 1 (m_X1_bit   true o13 eo13) q389 q390 q46 q391 hd_X1_bit rfl ⟨Nat.le_of_ble_eq_true rfl, Nat.le_of_ble_eq_true rfl⟩ hS trivial hl.1 rfl (Nat.le_of_ble_eq_true rfl) dX1_anglePut_53 ⟨Nat.le_of_ble_eq_true rfl, Nat.le_of_ble_eq_true rfl⟩) ?_
    obtain rfl := Option.some.inj h
    rw [eQ]
    exact r_iret hx hb hr hlk hS (Nat.le_of_ble_eq_true rfl) (Nat.le_of_ble_eq_true rfl) dX1_anglePut_56 ⟨_, rfl, rfl, h_x0, h_x0r0, h_x0r2, hF⟩

abbrev R_X1_great : Room := { frames := 12, cells := 268, slots := 2614, locals := 1494 }
noncomputable def f_X1_great (x0r0c : Nat → UInt64) (x0r1c : Nat → UInt64) (x0r2c : Nat → Int32) (x0f3 : Int32) (x0f4 : Int32) (x0f5 : Int32) (x0f6 : Int32) (x1 : Int32) (x2 : Int32) (x3 : Int32) (x4 : Bool) : Option (Int32 × Int32 × (Nat → UInt64) × (Nat → Int32)) :=
  Option.bind (f_X1_mustBeCell x1) fun o1 =>
  Option.bind (f_X1_isIn x2 33 64) fun o2 =>
  lt (fun (v3 : Bool) =>
  Option.bind (f_X1_mustFit v3) fun o5 =>
  ltl (x2.toInt64) fun v6 =>
  ltl ((v6 : Int64) <<< ((x3 : Int32).toInt64 &&& 63)) fun v7 =>
  ltd (FP.l2d v7) fun v8 =>
  (if x4 = true then
    ltd (FP.dneg v8) fun v11 =>
    Option.bind (f_X1_anglePut x0r0c x0r1c x0r2c x0f3 x0f4 x0f5 x0f6 x1 v11) fun o12 =>
    some (o12.1, o12.2.1, o12.2.2.1, o12.2.2.2)
  else
    Option.bind (f_X1_anglePut x0r0c x0r1c x0r2c x0f3 x0f4 x0f5 x0f6 x1 v8) fun o10 =>
    some (o10.1, o10.2.1, o10.2.2.1, o10.2.2.2)
  )
  ) fun K4 =>
  lt (fun (_u : Unit) =>
  K4 false
  ) fun K13 =>
  (if o2 = true then
    Option.bind (f_X1_isIn x3 8 44) fun o15 =>
    (if o15 = true then
      K4 true
    else
      K13 ()
    )
  else
    K13 ()
  )
theorem hd_X1_great : Hd yX1_great 4 := by unfold Hd; decide +kernel
set_option maxHeartbeats 4000000 in
set_option maxRecDepth 100000 in
theorem m_X1_great {l : Launch} {D : DD} (x0 : Nat) (x0r0 : Nat) (x0r1 : Nat) (x0r2 : Nat)  (x0r0c : Nat → UInt64) (x0r1c : Nat → UInt64) (x0r2c : Nat → Int32) (x0f3 : Int32) (x0f4 : Int32) (x0f5 : Int32) (x0f6 : Int32) (x1 : Int32) (x2 : Int32) (x3 : Int32) (x4 : Bool) (r : Int32 × Int32 × (Nat → UInt64) × (Nat → Int32)) (h : f_X1_great x0r0c x0r1c x0r2c x0f3 x0f4 x0f5 x0f6 x1 x2 x3 x4 = some r) : MT l D yX1_great cX1_great 7 (some .int) 12 1494 268 2614 [.ref x0, .int x1, .int x2, .int x3, .int (bI x4)] (fun H => ON D 0 x0 [.ref x0r0, .ref x0r1, .ref x0r2, .int x0f3, .int x0f4, .int x0f5, .int x0f6] H ∧ dB D ≤ x0 ∧ aD D x0r0 8 x0r0c H ∧ dB D ≤ x0r0 ∧ aD D x0r1 8 x0r1c H ∧ aZ D x0r2 8 x0r2c H ∧ dB D ≤ x0r2 ∧ x0 ≠ x0r0 ∧ x0 ≠ x0r1 ∧ x0 ≠ x0r2 ∧ x0r0 ≠ x0r1 ∧ x0r0 ≠ x0r2 ∧ x0r1 ≠ x0r2) (pI (fun H b H' => b = r.1 ∧ ON D 0 x0 [.ref x0r0, .ref x0r1, .ref x0r2, .int r.2.1, .int x0f4, .int x0f5, .int x0f6] H' ∧ aD D x0r0 8 r.2.2.1 H' ∧ aZ D x0r2 8 r.2.2.2 H' ∧ Off (fun a => a = x0 ∨ a = x0r0 ∨ a = x0r2) H H')) := by
  refine MT.start (by decide +kernel) (Nat.le_of_ble_eq_true rfl) ?_
  intro p e s m below meth c ls hC hS hp hl
  obtain ⟨h_x0, hB_h_x0, h_x0r0, hB_h_x0r0, h_x0r1, h_x0r2, hB_h_x0r2, ne_x0_x0r0, ne_x0_x0r1, ne_x0_x0r2, ne_x0r0_x0r1, ne_x0r0_x0r2, ne_x0r1_x0r2⟩ := hp
  obtain ⟨hx, hb, hr, hlk, hml, hown, hts, hnm⟩ := id hC
  have hl : lv_has ls 7 [(0, .ref x0), (1, .int x1), (2, .int x2), (3, .int x3), (4, .int (bI x4))] := hl
  unfold f_X1_great at h
  have hS0 := hS
  obtain ⟨A, eA⟩ : ∃ A : Array Value, A = [.ref x0, .int x1, .int x2, .int x3, .int (bI x4)].toArray := ⟨_, rfl⟩
  rw [← eA] at hC hts ⊢
  obtain ⟨Q, eQ⟩ : ∃ Q : State → Prop, Q = MQ below (TQ D (pI (fun H b H' => b = r.1 ∧ ON D 0 x0 [.ref x0r0, .ref x0r1, .ref x0r2, .int r.2.1, .int x0f4, .int x0f5, .int x0f6] H' ∧ aD D x0r0 8 r.2.2.1 H' ∧ aZ D x0r2 8 r.2.2.2 H' ∧ Off (fun a => a = x0 ∨ a = x0r0 ∨ a = x0r2) H H'))) A s 268 2614 (fun q => dB D ≤ q) := ⟨_, rfl⟩
  have hF : Off (fun a => a = x0 ∨ a = x0r0 ∨ a = x0r2) s.heap s.heap := Off.rf
  show W p l e R_X1_great s m A below meth c s.heap [] 0 0 _ _
  rw [← eQ]
  obtain ⟨H, eH⟩ : ∃ H : Heap, H = s.heap := ⟨_, rfl⟩
  obtain ⟨locs, eLc⟩ : ∃ L : List Loc, L = [] := ⟨_, rfl⟩
  have lt_h_x0 := h_x0.lt
  have lt_h_x0r0 := h_x0r0.lt
  have lt_h_x0r1 := h_x0r1.lt
  have lt_h_x0r2 := h_x0r2.lt
  rw [← eH, ← eLc]
  have hF : Off (fun a => a = x0 ∨ a = x0r0 ∨ a = x0r2) s.heap H := by rw [eH]; exact hF
  rw [← eH] at h_x0
  rw [← eH] at h_x0r0
  rw [← eH] at h_x0r1
  rw [← eH] at h_x0r2
  have hS : St D s H locs := by rw [eH, eLc]; exact hS
  refine lv_iload_n hx hb dX1_great_0 rfl (lv_at hl 1 rfl) ?_
  obtain ⟨o1, eo1, h⟩ := bind_step h
  refine r_cpv (r_runS (rest := []) (As := [.int x1]) hC 1 (m_X1_mustBeCell   x1 o1 eo1) q956 q957 q46 q958 hd_X1_mustBeCell rfl ⟨Nat.le_of_ble_eq_true rfl, Nat.le_of_ble_eq_true rfl⟩ hS trivial hl.1 rfl (Nat.le_of_ble_eq_true rfl) dX1_great_1 ⟨Nat.le_of_ble_eq_true rfl, Nat.le_of_ble_eq_true rfl⟩) ?_
  refine lv_iload_n hx hb dX1_great_4 rfl (lv_at hl 2 rfl) ?_
  refine lv_bipush (v := 33) hx hb dX1_great_5 (by decide) ?_
  refine lv_bipush (v := 64) hx hb dX1_great_7 (by decide) ?_
  obtain ⟨o2, eo2, h⟩ := bind_step h
  refine r_cp (r_runS (rest := []) (As := [.int x2, .int 33, .int 64]) hC 3 (m_X1_isIn   x2 33 64 o2 eo2) q395 q396 q46 q397 hd_X1_isIn rfl ⟨Nat.le_of_ble_eq_true rfl, Nat.le_of_ble_eq_true rfl⟩ hS trivial hl.1 rfl (Nat.le_of_ble_eq_true rfl) dX1_great_9 ⟨Nat.le_of_ble_eq_true rfl, Nat.le_of_ble_eq_true rfl⟩) ?_
  obtain ⟨K4, eK4, h⟩ := lt_step h
  have HK4 : ∀ (v3 : Bool) (h : K4 v3 = some r) (H : Heap) (locs : List Loc) (hS : St D s H locs) (hF : Off (fun a => a = x0 ∨ a = x0r0 ∨ a = x0r2) s.heap H) (h_x0 : ON D 0 x0 [.ref x0r0, .ref x0r1, .ref x0r2, .int x0f3, .int x0f4, .int x0f5, .int x0f6] H) (h_x0r0 : aD D x0r0 8 x0r0c H) (h_x0r1 : aD D x0r1 8 x0r1c H) (h_x0r2 : aZ D x0r2 8 x0r2c H) (ls : Array Slot) (hl : lv_has ls 7 [(0, .ref x0), (1, .int x1), (2, .int x2), (3, .int x3), (4, .int (bI x4))]), W p l e R_X1_great s m A below meth c H locs 0 0 Q (F0 m 31 ls [.int (bI v3)]) := by
    intro v3 h H locs hS hF h_x0 h_x0r0 h_x0r1 h_x0r2 ls hl
    subst eK4
    obtain ⟨o5, eo5, h⟩ := bind_step h
    refine r_cpv (r_runS (rest := []) (As := [.int (bI v3)]) hC 1 (m_X1_mustFit   v3 o5 eo5) q1230 q1231 q46 q1232 hd_X1_mustFit rfl ⟨Nat.le_of_ble_eq_true rfl, Nat.le_of_ble_eq_true rfl⟩ hS trivial hl.1 rfl (Nat.le_of_ble_eq_true rfl) dX1_great_31 ⟨Nat.le_of_ble_eq_true rfl, Nat.le_of_ble_eq_true rfl⟩) ?_
    refine lv_iload_n hx hb dX1_great_34 rfl (lv_at hl 2 rfl) ?_
    obtain ⟨v6, ev6, h⟩ := ltl_step h
    refine r_i2l hx hb ev6 dX1_great_35 ?_
    refine lv_iload_n hx hb dX1_great_36 rfl (lv_at hl 3 rfl) ?_
    obtain ⟨v7, ev7, h⟩ := ltl_step h
    refine r_lshl hx hb ev7 dX1_great_37 ?_
    obtain ⟨v8, ev8, h⟩ := ltd_step h
    refine r_l2dc hx hb ev8 dX1_great_38 ?_
    refine lv_dstore (lv' := [(5, .double v8), (0, .ref x0), (1, .int x1), (2, .int x2), (3, .int x3), (4, .int (bI x4))]) hx hb dX1_great_39 hl (by decide) rfl (fun ls hl => ?_)
    refine lv_aload_n hx hb dX1_great_41 rfl (lv_at hl 1 rfl) ?_
    refine lv_iload_n hx hb dX1_great_42 rfl (lv_at hl 2 rfl) ?_
    refine lv_iload hx hb dX1_great_43 (lv_at hl 5 rfl) ?_
    refine r_ifz_eq (tgt := 54) hx hb dX1_great_45 (by decide) (fun c9 => ?_) (fun c9 => ?_)
    · have h := it_neg h (by rw [c9]; decide)
      refine lv_dload hx hb dX1_great_54 (lv_at hl 0 rfl) ?_
      obtain ⟨o10, eo10, h⟩ := bind_step h
      refine r_ci (r_runV (rest := []) (As := [.int x1, .double v8]) hC 2 (m_X1_anglePut x0 x0r0 x0r1 x0r2  x0r0c x0r1c x0r2c x0f3 x0f4 x0f5 x0f6 x1 v8 o10 eo10) q1353 q1355 qs22 q46 q1356 (OA.recv hS h_x0.OA (C := RX1) rfl) hd_X1_anglePut rfl ⟨Nat.le_of_ble_eq_true rfl, Nat.le_of_ble_eq_true rfl⟩ hS ⟨h_x0, hB_h_x0, h_x0r0, hB_h_x0r0, h_x0r1, h_x0r2, hB_h_x0r2, ne_x0_x0r0, ne_x0_x0r1, ne_x0_x0r2, ne_x0r0_x0r1, ne_x0r0_x0r2, ne_x0r1_x0r2⟩ hl.1 rfl (Nat.le_of_ble_eq_true rfl) dX1_great_56 ⟨Nat.le_of_ble_eq_true rfl, Nat.le_of_ble_eq_true rfl⟩) hS (fun b H locs hp hS hz => ?_)
      obtain ⟨rfl, h_x0, h_x0r0, h_x0r2, hO⟩ := hp
      have h_x0r1 := h_x0r1.off hO (fun z => by rcases z with z | z | z <;> first | exact (Ne.symm ne_x0_x0r1) z | exact (Ne.symm ne_x0r0_x0r1) z | exact ne_x0r1_x0r2 z)
      have hF := hF.fresh hO (fun a ha z => by
        rcases z with z | z | z
        · exact Or.inl z
        · exact Or.inr (Or.inl z)
        · exact Or.inr (Or.inr (z)))
      obtain rfl := Option.some.inj h
      rw [eQ]
      exact r_iret hx hb hr hlk hS (Nat.le_of_ble_eq_true rfl) (Nat.le_of_ble_eq_true rfl) dX1_great_59 ⟨_, rfl, rfl, h_x0, h_x0r0, h_x0r2, hF⟩
    · have h := it_pos h (by rw [c9])
      refine lv_dload hx hb dX1_great_48 (lv_at hl 0 rfl) ?_
      obtain ⟨v11, ev11, h⟩ := ltd_step h
      refine r_dneg hx hb ev11 dX1_great_50 ?_
      refine lv_goto (tgt := 56) hx hb dX1_great_51 (by decide) ?_
      obtain ⟨o12, eo12, h⟩ := bind_step h
      refine r_ci (r_runV (rest := []) (As := [.int x1, .double v11]) hC 2 (m_X1_anglePut x0 x0r0 x0r1 x0r2  x0r0c x0r1c x0r2c x0f3 x0f4 x0f5 x0f6 x1 v11 o12 eo12) q1353 q1355 qs22 q46 q1356 (OA.recv hS h_x0.OA (C := RX1) rfl) hd_X1_anglePut rfl ⟨Nat.le_of_ble_eq_true rfl, Nat.le_of_ble_eq_true rfl⟩ hS ⟨h_x0, hB_h_x0, h_x0r0, hB_h_x0r0, h_x0r1, h_x0r2, hB_h_x0r2, ne_x0_x0r0, ne_x0_x0r1, ne_x0_x0r2, ne_x0r0_x0r1, ne_x0r0_x0r2, ne_x0r1_x0r2⟩ hl.1 rfl (Nat.le_of_ble_eq_true rfl) dX1_great_56 ⟨Nat.le_of_ble_eq_true rfl, Nat.le_of_ble_eq_true rfl⟩) hS (fun b H locs hp hS hz => ?_)
      obtain ⟨rfl, h_x0, h_x0r0, h_x0r2, hO⟩ := hp
      have h_x0r1 := h_x0r1.off hO (fun z => by rcases z with z | z | z <;> first | exact (Ne.symm ne_x0_x0r1) z | exact (Ne.symm ne_x0r0_x0r1) z | exact ne_x0r1_x0r2 z)
      have hF := hF.fresh hO (fun a ha z => by
        rcases z with z | z | z
        · exact Or.inl z
        · exact Or.inr (Or.inl z)
        · exact Or.inr (Or.inr (z)))
      obtain rfl := Option.some.inj h
      rw [eQ]
      exact r_iret hx hb hr hlk hS (Nat.le_of_ble_eq_true rfl) (Nat.le_of_ble_eq_true rfl) dX1_great_59 ⟨_, rfl, rfl, h_x0, h_x0r0, h_x0r2, hF⟩
  clear eK4
  obtain ⟨K13, eK13, h⟩ := lt_step h
  have HK13 : ∀  (h : K13 () = some r) (H : Heap) (locs : List Loc) (hS : St D s H locs) (hF : Off (fun a => a = x0 ∨ a = x0r0 ∨ a = x0r2) s.heap H) (h_x0 : ON D 0 x0 [.ref x0r0, .ref x0r1, .ref x0r2, .int x0f3, .int x0f4, .int x0f5, .int x0f6] H) (h_x0r0 : aD D x0r0 8 x0r0c H) (h_x0r1 : aD D x0r1 8 x0r1c H) (h_x0r2 : aZ D x0r2 8 x0r2c H) (ls : Array Slot) (hl : lv_has ls 7 [(0, .ref x0), (1, .int x1), (2, .int x2), (3, .int x3), (4, .int (bI x4))]), W p l e R_X1_great s m A below meth c H locs 0 0 Q (F0 m 30 ls []) := by
    intro h H locs hS hF h_x0 h_x0r0 h_x0r1 h_x0r2 ls hl
    subst eK13
    refine lv_iconst (v := 0) hx hb dX1_great_30 (by decide) ?_
    exact HK4 false h H locs hS hF h_x0 h_x0r0 h_x0r1 h_x0r2 ls (lv_sub hl [0, 1, 2, 3, 4] rfl)
  clear eK13
  refine r_ifz_eq (tgt := 30) hx hb dX1_great_12 (by decide) (fun c14 => ?_) (fun c14 => ?_)
  · have h := it_neg h (by rw [c14]; decide)
    exact HK13  h H locs hS hF h_x0 h_x0r0 h_x0r1 h_x0r2 ls (lv_sub hl [0, 1, 2, 3, 4] rfl)
  · have h := it_pos h (by rw [c14])
    refine lv_iload_n hx hb dX1_great_15 rfl (lv_at hl 3 rfl) ?_
    refine lv_bipush (v := 8) hx hb dX1_great_16 (by decide) ?_
    refine lv_bipush (v := 44) hx hb dX1_great_18 (by decide) ?_
    obtain ⟨o15, eo15, h⟩ := bind_step h
    refine r_cp (r_runS (rest := []) (As := [.int x3, .int 8, .int 44]) hC 3 (m_X1_isIn   x3 8 44 o15 eo15) q395 q396 q46 q397 hd_X1_isIn rfl ⟨Nat.le_of_ble_eq_true rfl, Nat.le_of_ble_eq_true rfl⟩ hS trivial hl.1 rfl (Nat.le_of_ble_eq_true rfl) dX1_great_20 ⟨Nat.le_of_ble_eq_true rfl, Nat.le_of_ble_eq_true rfl⟩) ?_
    refine r_ifz_eq (tgt := 30) hx hb dX1_great_23 (by decide) (fun c16 => ?_) (fun c16 => ?_)
    · have h := it_neg h (by rw [c16]; decide)
      exact HK13  h H locs hS hF h_x0 h_x0r0 h_x0r1 h_x0r2 ls (lv_sub hl [0, 1, 2, 3, 4] rfl)
    · have h := it_pos h (by rw [c16])
      refine lv_iconst (v := 1) hx hb dX1_great_26 (by decide) ?_
      refine lv_goto (tgt := 31) hx hb dX1_great_27 (by decide) ?_
      exact HK4 true h H locs hS hF h_x0 h_x0r0 h_x0r1 h_x0r2 ls (lv_sub hl [0, 1, 2, 3, 4] rfl)

abbrev R_X1_angleSum : Room := { frames := 12, cells := 268, slots := 2614, locals := 1494 }
noncomputable def f_X1_angleSum (x0r0c : Nat → UInt64) (x0r1c : Nat → UInt64) (x0r2c : Nat → Int32) (x0f3 : Int32) (x0f4 : Int32) (x0f5 : Int32) (x0f6 : Int32) (x1 : Int32) (x2 : Int32) (x3 : Int32) : Option (Int32 × Int32 × Int32 × (Nat → UInt64) × (Nat → Int32)) :=
  Option.bind (f_X1_angleAt x0r0c x0r1c x0r2c x0f3 x0f4 x0f5 x0f6 x1) fun o1 =>
  Option.bind (f_X1_angleAt x0r0c x0r1c x0r2c x0f3 x0f4 x0f5 x0f6 x2) fun o2 =>
  Option.bind (f_X1_mustBeCell x3) fun o3 =>
  Option.bind (f_J10_sum o1 o2) fun o4 =>
  ck (dsubF o4 o1) fun v5 =>
  lti (dcmpF v5 o2 .l) fun v6 =>
  lt (fun (v7 : Bool) =>
  (if v7 = true then
    Option.bind (f_X1_isInSet o4) fun o11 =>
    (if o11 = true then
      Option.bind (f_X1_anglePut x0r0c x0r1c x0r2c x0f3 x0f4 x0f5 x0f6 x3 o4) fun o14 =>
      some (o14.1, o14.2.1, x0f5, o14.2.2.1, o14.2.2.2)
    else
      Option.bind (f_X1_refused x0r0c x0r1c x0r2c x0f3 x0f4 x0f5 x0f6) fun o13 =>
      some (o13.1, x0f3, o13.2, x0r0c, x0r2c)
    )
  else
    Option.bind (f_X1_refused x0r0c x0r1c x0r2c x0f3 x0f4 x0f5 x0f6) fun o10 =>
    some (o10.1, x0f3, o10.2, x0r0c, x0r2c)
  )
  ) fun K8 =>
  lt (fun (_u : Unit) =>
  K8 false
  ) fun K15 =>
  (if v6 = 0 then
    ck (dsubF o4 o2) fun v17 =>
    lti (dcmpF v17 o1 .l) fun v18 =>
    (if v18 = 0 then
      K8 true
    else
      K15 ()
    )
  else
    K15 ()
  )
theorem hd_X1_angleSum : Hd yX1_angleSum 3 := by unfold Hd; decide +kernel
set_option maxHeartbeats 4000000 in
set_option maxRecDepth 100000 in
theorem m_X1_angleSum {l : Launch} {D : DD} (x0 : Nat) (x0r0 : Nat) (x0r1 : Nat) (x0r2 : Nat)  (x0r0c : Nat → UInt64) (x0r1c : Nat → UInt64) (x0r2c : Nat → Int32) (x0f3 : Int32) (x0f4 : Int32) (x0f5 : Int32) (x0f6 : Int32) (x1 : Int32) (x2 : Int32) (x3 : Int32) (r : Int32 × Int32 × Int32 × (Nat → UInt64) × (Nat → Int32)) (h : f_X1_angleSum x0r0c x0r1c x0r2c x0f3 x0f4 x0f5 x0f6 x1 x2 x3 = some r) : MT l D yX1_angleSum cX1_angleSum 11 (some .int) 12 1494 268 2614 [.ref x0, .int x1, .int x2, .int x3] (fun H => ON D 0 x0 [.ref x0r0, .ref x0r1, .ref x0r2, .int x0f3, .int x0f4, .int x0f5, .int x0f6] H ∧ dB D ≤ x0 ∧ aD D x0r0 8 x0r0c H ∧ dB D ≤ x0r0 ∧ aD D x0r1 8 x0r1c H ∧ aZ D x0r2 8 x0r2c H ∧ dB D ≤ x0r2 ∧ x0 ≠ x0r0 ∧ x0 ≠ x0r1 ∧ x0 ≠ x0r2 ∧ x0r0 ≠ x0r1 ∧ x0r0 ≠ x0r2 ∧ x0r1 ≠ x0r2) (pI (fun H b H' => b = r.1 ∧ ON D 0 x0 [.ref x0r0, .ref x0r1, .ref x0r2, .int r.2.1, .int x0f4, .int r.2.2.1, .int x0f6] H' ∧ aD D x0r0 8 r.2.2.2.1 H' ∧ aZ D x0r2 8 r.2.2.2.2 H' ∧ Off (fun a => a = x0 ∨ a = x0r0 ∨ a = x0r2) H H')) := by
  refine MT.start (by decide +kernel) (Nat.le_of_ble_eq_true rfl) ?_
  intro p e s m below meth c ls hC hS hp hl
  obtain ⟨h_x0, hB_h_x0, h_x0r0, hB_h_x0r0, h_x0r1, h_x0r2, hB_h_x0r2, ne_x0_x0r0, ne_x0_x0r1, ne_x0_x0r2, ne_x0r0_x0r1, ne_x0r0_x0r2, ne_x0r1_x0r2⟩ := hp
  obtain ⟨hx, hb, hr, hlk, hml, hown, hts, hnm⟩ := id hC
  have hl : lv_has ls 11 [(0, .ref x0), (1, .int x1), (2, .int x2), (3, .int x3)] := hl
  unfold f_X1_angleSum at h
  have hS0 := hS
  obtain ⟨A, eA⟩ : ∃ A : Array Value, A = [.ref x0, .int x1, .int x2, .int x3].toArray := ⟨_, rfl⟩
  rw [← eA] at hC hts ⊢
  obtain ⟨Q, eQ⟩ : ∃ Q : State → Prop, Q = MQ below (TQ D (pI (fun H b H' => b = r.1 ∧ ON D 0 x0 [.ref x0r0, .ref x0r1, .ref x0r2, .int r.2.1, .int x0f4, .int r.2.2.1, .int x0f6] H' ∧ aD D x0r0 8 r.2.2.2.1 H' ∧ aZ D x0r2 8 r.2.2.2.2 H' ∧ Off (fun a => a = x0 ∨ a = x0r0 ∨ a = x0r2) H H'))) A s 268 2614 (fun q => dB D ≤ q) := ⟨_, rfl⟩
  have hF : Off (fun a => a = x0 ∨ a = x0r0 ∨ a = x0r2) s.heap s.heap := Off.rf
  show W p l e R_X1_angleSum s m A below meth c s.heap [] 0 0 _ _
  rw [← eQ]
  obtain ⟨H, eH⟩ : ∃ H : Heap, H = s.heap := ⟨_, rfl⟩
  obtain ⟨locs, eLc⟩ : ∃ L : List Loc, L = [] := ⟨_, rfl⟩
  have lt_h_x0 := h_x0.lt
  have lt_h_x0r0 := h_x0r0.lt
  have lt_h_x0r1 := h_x0r1.lt
  have lt_h_x0r2 := h_x0r2.lt
  rw [← eH, ← eLc]
  have hF : Off (fun a => a = x0 ∨ a = x0r0 ∨ a = x0r2) s.heap H := by rw [eH]; exact hF
  rw [← eH] at h_x0
  rw [← eH] at h_x0r0
  rw [← eH] at h_x0r1
  rw [← eH] at h_x0r2
  have hS : St D s H locs := by rw [eH, eLc]; exact hS
  refine lv_aload_n hx hb dX1_angleSum_0 rfl (lv_at hl 0 rfl) ?_
  refine lv_iload_n hx hb dX1_angleSum_1 rfl (lv_at hl 1 rfl) ?_
  obtain ⟨o1, eo1, h⟩ := bind_step h
  refine r_cp (r_runV (rest := []) (As := [.int x1]) hC 1 (m_X1_angleAt x0 x0r0 x0r1 x0r2  x0r0c x0r1c x0r2c x0f3 x0f4 x0f5 x0f6 x1 o1 eo1) q952 q954 qs11 q46 q955 (OA.recv hS h_x0.OA (C := RX1) rfl) hd_X1_angleAt rfl ⟨Nat.le_of_ble_eq_true rfl, Nat.le_of_ble_eq_true rfl⟩ hS ⟨h_x0, h_x0r0, h_x0r1, h_x0r2⟩ hl.1 rfl (Nat.le_of_ble_eq_true rfl) dX1_angleSum_2 ⟨Nat.le_of_ble_eq_true rfl, Nat.le_of_ble_eq_true rfl⟩) ?_
  refine lv_dstore (lv' := [(4, .double o1), (0, .ref x0), (1, .int x1), (2, .int x2), (3, .int x3)]) hx hb dX1_angleSum_5 hl (by decide) rfl (fun ls hl => ?_)
  refine lv_aload_n hx hb dX1_angleSum_7 rfl (lv_at hl 1 rfl) ?_
  refine lv_iload_n hx hb dX1_angleSum_8 rfl (lv_at hl 3 rfl) ?_
  obtain ⟨o2, eo2, h⟩ := bind_step h
  refine r_cp (r_runV (rest := []) (As := [.int x2]) hC 1 (m_X1_angleAt x0 x0r0 x0r1 x0r2  x0r0c x0r1c x0r2c x0f3 x0f4 x0f5 x0f6 x2 o2 eo2) q952 q954 qs11 q46 q955 (OA.recv hS h_x0.OA (C := RX1) rfl) hd_X1_angleAt rfl ⟨Nat.le_of_ble_eq_true rfl, Nat.le_of_ble_eq_true rfl⟩ hS ⟨h_x0, h_x0r0, h_x0r1, h_x0r2⟩ hl.1 rfl (Nat.le_of_ble_eq_true rfl) dX1_angleSum_9 ⟨Nat.le_of_ble_eq_true rfl, Nat.le_of_ble_eq_true rfl⟩) ?_
  refine lv_dstore (lv' := [(6, .double o2), (4, .double o1), (0, .ref x0), (1, .int x1), (2, .int x2), (3, .int x3)]) hx hb dX1_angleSum_12 hl (by decide) rfl (fun ls hl => ?_)
  refine lv_iload_n hx hb dX1_angleSum_14 rfl (lv_at hl 5 rfl) ?_
  obtain ⟨o3, eo3, h⟩ := bind_step h
  refine r_cpv (r_runS (rest := []) (As := [.int x3]) hC 1 (m_X1_mustBeCell   x3 o3 eo3) q956 q957 q46 q958 hd_X1_mustBeCell rfl ⟨Nat.le_of_ble_eq_true rfl, Nat.le_of_ble_eq_true rfl⟩ hS trivial hl.1 rfl (Nat.le_of_ble_eq_true rfl) dX1_angleSum_15 ⟨Nat.le_of_ble_eq_true rfl, Nat.le_of_ble_eq_true rfl⟩) ?_
  refine lv_dload hx hb dX1_angleSum_18 (lv_at hl 1 rfl) ?_
  refine lv_dload hx hb dX1_angleSum_20 (lv_at hl 0 rfl) ?_
  obtain ⟨o4, eo4, h⟩ := bind_step h
  refine r_cp (r_runS (rest := []) (As := [.double o1, .double o2]) hC 2 (m_J10_sum   o1 o2 o4 eo4) q1366 q1367 q51 q1368 hd_J10_sum rfl ⟨Nat.le_of_ble_eq_true rfl, Nat.le_of_ble_eq_true rfl⟩ hS trivial hl.1 rfl (Nat.le_of_ble_eq_true rfl) dX1_angleSum_22 ⟨Nat.le_of_ble_eq_true rfl, Nat.le_of_ble_eq_true rfl⟩) ?_
  refine lv_dstore (lv' := [(8, .double o4), (6, .double o2), (4, .double o1), (0, .ref x0), (1, .int x1), (2, .int x2), (3, .int x3)]) hx hb dX1_angleSum_25 hl (by decide) rfl (fun ls hl => ?_)
  refine lv_dload hx hb dX1_angleSum_27 (lv_at hl 0 rfl) ?_
  refine lv_dload hx hb dX1_angleSum_29 (lv_at hl 2 rfl) ?_
  obtain ⟨v5, ev5, nv5, h⟩ := ck_step h
  refine r_dsub hx hb ev5 nv5 dX1_angleSum_31 ?_
  refine lv_dload hx hb dX1_angleSum_32 (lv_at hl 1 rfl) ?_
  obtain ⟨v6, ev6, h⟩ := lti_step h
  refine r_dcmp hx hb ev6 dX1_angleSum_34 ?_
  obtain ⟨K8, eK8, h⟩ := lt_step h
  have HK8 : ∀ (v7 : Bool) (h : K8 v7 = some r) (H : Heap) (locs : List Loc) (hS : St D s H locs) (hF : Off (fun a => a = x0 ∨ a = x0r0 ∨ a = x0r2) s.heap H) (h_x0 : ON D 0 x0 [.ref x0r0, .ref x0r1, .ref x0r2, .int x0f3, .int x0f4, .int x0f5, .int x0f6] H) (h_x0r0 : aD D x0r0 8 x0r0c H) (h_x0r1 : aD D x0r1 8 x0r1c H) (h_x0r2 : aZ D x0r2 8 x0r2c H) (ls : Array Slot) (hl : lv_has ls 11 [(0, .ref x0), (3, .int x3), (8, .double o4)]), W p l e R_X1_angleSum s m A below meth c H locs 0 0 Q (F0 m 54 ls [.int (bI v7)]) := by
    intro v7 h H locs hS hF h_x0 h_x0r0 h_x0r1 h_x0r2 ls hl
    subst eK8
    refine lv_istore (lv' := [(10, .int (bI v7)), (0, .ref x0), (3, .int x3), (8, .double o4)]) hx hb dX1_angleSum_54 hl (by decide) rfl (fun ls hl => ?_)
    refine lv_iload hx hb dX1_angleSum_56 (lv_at hl 0 rfl) ?_
    refine r_ifz_eq (tgt := 79) hx hb dX1_angleSum_58 (by decide) (fun c9 => ?_) (fun c9 => ?_)
    · have h := it_neg h (by rw [c9]; decide)
      refine lv_aload_n hx hb dX1_angleSum_79 rfl (lv_at hl 1 rfl) ?_
      obtain ⟨o10, eo10, h⟩ := bind_step h
      refine r_ci (r_runV (rest := []) (As := []) hC 0 (m_X1_refused x0 x0r0 x0r1 x0r2  x0r0c x0r1c x0r2c x0f3 x0f4 x0f5 x0f6 o10 eo10) q1369 q1371 qs23 q46 q1372 (OA.recv hS h_x0.OA (C := RX1) rfl) hd_X1_refused rfl ⟨Nat.le_of_ble_eq_true rfl, Nat.le_of_ble_eq_true rfl⟩ hS ⟨h_x0, hB_h_x0, h_x0r0, h_x0r1, h_x0r2, ne_x0_x0r0, ne_x0_x0r1, ne_x0_x0r2⟩ hl.1 rfl (Nat.le_of_ble_eq_true rfl) dX1_angleSum_80 ⟨Nat.le_of_ble_eq_true rfl, Nat.le_of_ble_eq_true rfl⟩) hS (fun b H locs hp hS hz => ?_)
      obtain ⟨rfl, h_x0, hO⟩ := hp
      have h_x0r0 := h_x0r0.off hO (Ne.symm ne_x0_x0r0)
      have h_x0r1 := h_x0r1.off hO (Ne.symm ne_x0_x0r1)
      have h_x0r2 := h_x0r2.off hO (Ne.symm ne_x0_x0r2)
      have hF := hF.fresh hO (fun a ha z => Or.inl z)
      obtain rfl := Option.some.inj h
      rw [eQ]
      exact r_iret hx hb hr hlk hS (Nat.le_of_ble_eq_true rfl) (Nat.le_of_ble_eq_true rfl) dX1_angleSum_83 ⟨_, rfl, rfl, h_x0, h_x0r0, h_x0r2, hF⟩
    · have h := it_pos h (by rw [c9])
      refine lv_dload hx hb dX1_angleSum_61 (lv_at hl 3 rfl) ?_
      obtain ⟨o11, eo11, h⟩ := bind_step h
      refine r_cp (r_runS (rest := []) (As := [.double o4]) hC 1 (m_X1_isInSet   o4 o11 eo11) q354 q355 q46 q356 hd_X1_isInSet rfl ⟨Nat.le_of_ble_eq_true rfl, Nat.le_of_ble_eq_true rfl⟩ hS trivial hl.1 rfl (Nat.le_of_ble_eq_true rfl) dX1_angleSum_63 ⟨Nat.le_of_ble_eq_true rfl, Nat.le_of_ble_eq_true rfl⟩) ?_
      refine r_ifz_eq (tgt := 79) hx hb dX1_angleSum_66 (by decide) (fun c12 => ?_) (fun c12 => ?_)
      · have h := it_neg h (by rw [c12]; decide)
        refine lv_aload_n hx hb dX1_angleSum_79 rfl (lv_at hl 1 rfl) ?_
        obtain ⟨o13, eo13, h⟩ := bind_step h
        refine r_ci (r_runV (rest := []) (As := []) hC 0 (m_X1_refused x0 x0r0 x0r1 x0r2  x0r0c x0r1c x0r2c x0f3 x0f4 x0f5 x0f6 o13 eo13) q1369 q1371 qs23 q46 q1372 (OA.recv hS h_x0.OA (C := RX1) rfl) hd_X1_refused rfl ⟨Nat.le_of_ble_eq_true rfl, Nat.le_of_ble_eq_true rfl⟩ hS ⟨h_x0, hB_h_x0, h_x0r0, h_x0r1, h_x0r2, ne_x0_x0r0, ne_x0_x0r1, ne_x0_x0r2⟩ hl.1 rfl (Nat.le_of_ble_eq_true rfl) dX1_angleSum_80 ⟨Nat.le_of_ble_eq_true rfl, Nat.le_of_ble_eq_true rfl⟩) hS (fun b H locs hp hS hz => ?_)
        obtain ⟨rfl, h_x0, hO⟩ := hp
        have h_x0r0 := h_x0r0.off hO (Ne.symm ne_x0_x0r0)
        have h_x0r1 := h_x0r1.off hO (Ne.symm ne_x0_x0r1)
        have h_x0r2 := h_x0r2.off hO (Ne.symm ne_x0_x0r2)
        have hF := hF.fresh hO (fun a ha z => Or.inl z)
        obtain rfl := Option.some.inj h
        rw [eQ]
        exact r_iret hx hb hr hlk hS (Nat.le_of_ble_eq_true rfl) (Nat.le_of_ble_eq_true rfl) dX1_angleSum_83 ⟨_, rfl, rfl, h_x0, h_x0r0, h_x0r2, hF⟩
      · have h := it_pos h (by rw [c12])
        refine lv_aload_n hx hb dX1_angleSum_69 rfl (lv_at hl 1 rfl) ?_
        refine lv_iload_n hx hb dX1_angleSum_70 rfl (lv_at hl 2 rfl) ?_
        refine lv_dload hx hb dX1_angleSum_71 (lv_at hl 3 rfl) ?_
        obtain ⟨o14, eo14, h⟩ := bind_step h
        refine r_ci (r_runV (rest := []) (As := [.int x3, .double o4]) hC 2 (m_X1_anglePut x0 x0r0 x0r1 x0r2  x0r0c x0r1c x0r2c x0f3 x0f4 x0f5 x0f6 x3 o4 o14 eo14) q1353 q1355 qs22 q46 q1356 (OA.recv hS h_x0.OA (C := RX1) rfl) hd_X1_anglePut rfl ⟨Nat.le_of_ble_eq_true rfl, Nat.le_of_ble_eq_true rfl⟩ hS ⟨h_x0, hB_h_x0, h_x0r0, hB_h_x0r0, h_x0r1, h_x0r2, hB_h_x0r2, ne_x0_x0r0, ne_x0_x0r1, ne_x0_x0r2, ne_x0r0_x0r1, ne_x0r0_x0r2, ne_x0r1_x0r2⟩ hl.1 rfl (Nat.le_of_ble_eq_true rfl) dX1_angleSum_73 ⟨Nat.le_of_ble_eq_true rfl, Nat.le_of_ble_eq_true rfl⟩) hS (fun b H locs hp hS hz => ?_)
        obtain ⟨rfl, h_x0, h_x0r0, h_x0r2, hO⟩ := hp
        have h_x0r1 := h_x0r1.off hO (fun z => by rcases z with z | z | z <;> first | exact (Ne.symm ne_x0_x0r1) z | exact (Ne.symm ne_x0r0_x0r1) z | exact ne_x0r1_x0r2 z)
        have hF := hF.fresh hO (fun a ha z => by
          rcases z with z | z | z
          · exact Or.inl z
          · exact Or.inr (Or.inl z)
          · exact Or.inr (Or.inr (z)))
        refine lv_goto (tgt := 83) hx hb dX1_angleSum_76 (by decide) ?_
        obtain rfl := Option.some.inj h
        rw [eQ]
        exact r_iret hx hb hr hlk hS (Nat.le_of_ble_eq_true rfl) (Nat.le_of_ble_eq_true rfl) dX1_angleSum_83 ⟨_, rfl, rfl, h_x0, h_x0r0, h_x0r2, hF⟩
  clear eK8
  obtain ⟨K15, eK15, h⟩ := lt_step h
  have HK15 : ∀  (h : K15 () = some r) (H : Heap) (locs : List Loc) (hS : St D s H locs) (hF : Off (fun a => a = x0 ∨ a = x0r0 ∨ a = x0r2) s.heap H) (h_x0 : ON D 0 x0 [.ref x0r0, .ref x0r1, .ref x0r2, .int x0f3, .int x0f4, .int x0f5, .int x0f6] H) (h_x0r0 : aD D x0r0 8 x0r0c H) (h_x0r1 : aD D x0r1 8 x0r1c H) (h_x0r2 : aZ D x0r2 8 x0r2c H) (ls : Array Slot) (hl : lv_has ls 11 [(0, .ref x0), (3, .int x3), (8, .double o4)]), W p l e R_X1_angleSum s m A below meth c H locs 0 0 Q (F0 m 53 ls []) := by
    intro h H locs hS hF h_x0 h_x0r0 h_x0r1 h_x0r2 ls hl
    subst eK15
    refine lv_iconst (v := 0) hx hb dX1_angleSum_53 (by decide) ?_
    exact HK8 false h H locs hS hF h_x0 h_x0r0 h_x0r1 h_x0r2 ls (lv_sub hl [0, 1, 2] rfl)
  clear eK15
  refine lv_if_ne (tgt := 53) hx hb dX1_angleSum_35 (by decide) (fun c16 => ?_) (fun c16 => ?_)
  · have h := it_neg h c16
    exact HK15  h H locs hS hF h_x0 h_x0r0 h_x0r1 h_x0r2 ls (lv_sub hl [3, 6, 0] rfl)
  · have h := it_pos h c16
    refine lv_dload hx hb dX1_angleSum_38 (lv_at hl 0 rfl) ?_
    refine lv_dload hx hb dX1_angleSum_40 (lv_at hl 1 rfl) ?_
    obtain ⟨v17, ev17, nv17, h⟩ := ck_step h
    refine r_dsub hx hb ev17 nv17 dX1_angleSum_42 ?_
    refine lv_dload hx hb dX1_angleSum_43 (lv_at hl 2 rfl) ?_
    obtain ⟨v18, ev18, h⟩ := lti_step h
    refine r_dcmp hx hb ev18 dX1_angleSum_45 ?_
    refine lv_if_ne (tgt := 53) hx hb dX1_angleSum_46 (by decide) (fun c19 => ?_) (fun c19 => ?_)
    · have h := it_neg h c19
      exact HK15  h H locs hS hF h_x0 h_x0r0 h_x0r1 h_x0r2 ls (lv_sub hl [3, 6, 0] rfl)
    · have h := it_pos h c19
      refine lv_iconst (v := 1) hx hb dX1_angleSum_49 (by decide) ?_
      refine lv_goto (tgt := 54) hx hb dX1_angleSum_50 (by decide) ?_
      exact HK8 true h H locs hS hF h_x0 h_x0r0 h_x0r1 h_x0r2 ls (lv_sub hl [3, 6, 0] rfl)

abbrev R_X1_angleTwice : Room := { frames := 12, cells := 268, slots := 2614, locals := 1494 }
noncomputable def f_X1_angleTwice (x0r0c : Nat → UInt64) (x0r1c : Nat → UInt64) (x0r2c : Nat → Int32) (x0f3 : Int32) (x0f4 : Int32) (x0f5 : Int32) (x0f6 : Int32) (x1 : Int32) : Option (Int32 × Int32 × Int32 × (Nat → UInt64) × (Nat → Int32)) :=
  Option.bind (f_X1_angleAt x0r0c x0r1c x0r2c x0f3 x0f4 x0f5 x0f6 x1) fun o1 =>
  ck (dmulF 4611686018427387904 o1) fun v2 =>
  Option.bind (f_X1_isInSet v2) fun o3 =>
  (if o3 = true then
    Option.bind (f_X1_anglePut x0r0c x0r1c x0r2c x0f3 x0f4 x0f5 x0f6 x1 v2) fun o6 =>
    some (o6.1, o6.2.1, x0f5, o6.2.2.1, o6.2.2.2)
  else
    Option.bind (f_X1_refused x0r0c x0r1c x0r2c x0f3 x0f4 x0f5 x0f6) fun o5 =>
    some (o5.1, x0f3, o5.2, x0r0c, x0r2c)
  )
theorem hd_X1_angleTwice : Hd yX1_angleTwice 1 := by unfold Hd; decide +kernel
set_option maxHeartbeats 4000000 in
set_option maxRecDepth 100000 in
theorem m_X1_angleTwice {l : Launch} {D : DD} (x0 : Nat) (x0r0 : Nat) (x0r1 : Nat) (x0r2 : Nat)  (x0r0c : Nat → UInt64) (x0r1c : Nat → UInt64) (x0r2c : Nat → Int32) (x0f3 : Int32) (x0f4 : Int32) (x0f5 : Int32) (x0f6 : Int32) (x1 : Int32) (r : Int32 × Int32 × Int32 × (Nat → UInt64) × (Nat → Int32)) (h : f_X1_angleTwice x0r0c x0r1c x0r2c x0f3 x0f4 x0f5 x0f6 x1 = some r) : MT l D yX1_angleTwice cX1_angleTwice 4 (some .int) 12 1494 268 2614 [.ref x0, .int x1] (fun H => ON D 0 x0 [.ref x0r0, .ref x0r1, .ref x0r2, .int x0f3, .int x0f4, .int x0f5, .int x0f6] H ∧ dB D ≤ x0 ∧ aD D x0r0 8 x0r0c H ∧ dB D ≤ x0r0 ∧ aD D x0r1 8 x0r1c H ∧ aZ D x0r2 8 x0r2c H ∧ dB D ≤ x0r2 ∧ x0 ≠ x0r0 ∧ x0 ≠ x0r1 ∧ x0 ≠ x0r2 ∧ x0r0 ≠ x0r1 ∧ x0r0 ≠ x0r2 ∧ x0r1 ≠ x0r2) (pI (fun H b H' => b = r.1 ∧ ON D 0 x0 [.ref x0r0, .ref x0r1, .ref x0r2, .int r.2.1, .int x0f4, .int r.2.2.1, .int x0f6] H' ∧ aD D x0r0 8 r.2.2.2.1 H' ∧ aZ D x0r2 8 r.2.2.2.2 H' ∧ Off (fun a => a = x0 ∨ a = x0r0 ∨ a = x0r2) H H')) := by
  refine MT.start (by decide +kernel) (Nat.le_of_ble_eq_true rfl) ?_
  intro p e s m below meth c ls hC hS hp hl
  obtain ⟨h_x0, hB_h_x0, h_x0r0, hB_h_x0r0, h_x0r1, h_x0r2, hB_h_x0r2, ne_x0_x0r0, ne_x0_x0r1, ne_x0_x0r2, ne_x0r0_x0r1, ne_x0r0_x0r2, ne_x0r1_x0r2⟩ := hp
  obtain ⟨hx, hb, hr, hlk, hml, hown, hts, hnm⟩ := id hC
  have hl : lv_has ls 4 [(0, .ref x0), (1, .int x1)] := hl
  unfold f_X1_angleTwice at h
  have hS0 := hS
  obtain ⟨A, eA⟩ : ∃ A : Array Value, A = [.ref x0, .int x1].toArray := ⟨_, rfl⟩
  rw [← eA] at hC hts ⊢
  obtain ⟨Q, eQ⟩ : ∃ Q : State → Prop, Q = MQ below (TQ D (pI (fun H b H' => b = r.1 ∧ ON D 0 x0 [.ref x0r0, .ref x0r1, .ref x0r2, .int r.2.1, .int x0f4, .int r.2.2.1, .int x0f6] H' ∧ aD D x0r0 8 r.2.2.2.1 H' ∧ aZ D x0r2 8 r.2.2.2.2 H' ∧ Off (fun a => a = x0 ∨ a = x0r0 ∨ a = x0r2) H H'))) A s 268 2614 (fun q => dB D ≤ q) := ⟨_, rfl⟩
  have hF : Off (fun a => a = x0 ∨ a = x0r0 ∨ a = x0r2) s.heap s.heap := Off.rf
  show W p l e R_X1_angleTwice s m A below meth c s.heap [] 0 0 _ _
  rw [← eQ]
  obtain ⟨H, eH⟩ : ∃ H : Heap, H = s.heap := ⟨_, rfl⟩
  obtain ⟨locs, eLc⟩ : ∃ L : List Loc, L = [] := ⟨_, rfl⟩
  have lt_h_x0 := h_x0.lt
  have lt_h_x0r0 := h_x0r0.lt
  have lt_h_x0r1 := h_x0r1.lt
  have lt_h_x0r2 := h_x0r2.lt
  rw [← eH, ← eLc]
  have hF : Off (fun a => a = x0 ∨ a = x0r0 ∨ a = x0r2) s.heap H := by rw [eH]; exact hF
  rw [← eH] at h_x0
  rw [← eH] at h_x0r0
  rw [← eH] at h_x0r1
  rw [← eH] at h_x0r2
  have hS : St D s H locs := by rw [eH, eLc]; exact hS
  refine lv_ldc2d hx hb (v := 4611686018427387904) hown (hts _ q903) dX1_angleTwice_0 ?_
  refine lv_aload_n hx hb dX1_angleTwice_3 rfl (lv_at hl 0 rfl) ?_
  refine lv_iload_n hx hb dX1_angleTwice_4 rfl (lv_at hl 1 rfl) ?_
  obtain ⟨o1, eo1, h⟩ := bind_step h
  refine r_cp (r_runV (rest := [.double 4611686018427387904]) (As := [.int x1]) hC 1 (m_X1_angleAt x0 x0r0 x0r1 x0r2  x0r0c x0r1c x0r2c x0f3 x0f4 x0f5 x0f6 x1 o1 eo1) q952 q954 qs11 q46 q955 (OA.recv hS h_x0.OA (C := RX1) rfl) hd_X1_angleAt rfl ⟨Nat.le_of_ble_eq_true rfl, Nat.le_of_ble_eq_true rfl⟩ hS ⟨h_x0, h_x0r0, h_x0r1, h_x0r2⟩ hl.1 rfl (Nat.le_of_ble_eq_true rfl) dX1_angleTwice_5 ⟨Nat.le_of_ble_eq_true rfl, Nat.le_of_ble_eq_true rfl⟩) ?_
  obtain ⟨v2, ev2, nv2, h⟩ := ck_step h
  refine r_dmul hx hb ev2 nv2 dX1_angleTwice_8 ?_
  refine lv_dstore_n (lv' := [(2, .double v2), (0, .ref x0), (1, .int x1)]) hx hb dX1_angleTwice_9 rfl hl (by decide) rfl (fun ls hl => ?_)
  refine lv_dload_n hx hb dX1_angleTwice_10 rfl (lv_at hl 0 rfl) ?_
  obtain ⟨o3, eo3, h⟩ := bind_step h
  refine r_cp (r_runS (rest := []) (As := [.double v2]) hC 1 (m_X1_isInSet   v2 o3 eo3) q354 q355 q46 q356 hd_X1_isInSet rfl ⟨Nat.le_of_ble_eq_true rfl, Nat.le_of_ble_eq_true rfl⟩ hS trivial hl.1 rfl (Nat.le_of_ble_eq_true rfl) dX1_angleTwice_11 ⟨Nat.le_of_ble_eq_true rfl, Nat.le_of_ble_eq_true rfl⟩) ?_
  refine r_ifz_eq (tgt := 26) hx hb dX1_angleTwice_14 (by decide) (fun c4 => ?_) (fun c4 => ?_)
  · have h := it_neg h (by rw [c4]; decide)
    refine lv_aload_n hx hb dX1_angleTwice_26 rfl (lv_at hl 1 rfl) ?_
    obtain ⟨o5, eo5, h⟩ := bind_step h
    refine r_ci (r_runV (rest := []) (As := []) hC 0 (m_X1_refused x0 x0r0 x0r1 x0r2  x0r0c x0r1c x0r2c x0f3 x0f4 x0f5 x0f6 o5 eo5) q1369 q1371 qs23 q46 q1372 (OA.recv hS h_x0.OA (C := RX1) rfl) hd_X1_refused rfl ⟨Nat.le_of_ble_eq_true rfl, Nat.le_of_ble_eq_true rfl⟩ hS ⟨h_x0, hB_h_x0, h_x0r0, h_x0r1, h_x0r2, ne_x0_x0r0, ne_x0_x0r1, ne_x0_x0r2⟩ hl.1 rfl (Nat.le_of_ble_eq_true rfl) dX1_angleTwice_27 ⟨Nat.le_of_ble_eq_true rfl, Nat.le_of_ble_eq_true rfl⟩) hS (fun b H locs hp hS hz => ?_)
    obtain ⟨rfl, h_x0, hO⟩ := hp
    have h_x0r0 := h_x0r0.off hO (Ne.symm ne_x0_x0r0)
    have h_x0r1 := h_x0r1.off hO (Ne.symm ne_x0_x0r1)
    have h_x0r2 := h_x0r2.off hO (Ne.symm ne_x0_x0r2)
    have hF := hF.fresh hO (fun a ha z => Or.inl z)
    obtain rfl := Option.some.inj h
    rw [eQ]
    exact r_iret hx hb hr hlk hS (Nat.le_of_ble_eq_true rfl) (Nat.le_of_ble_eq_true rfl) dX1_angleTwice_30 ⟨_, rfl, rfl, h_x0, h_x0r0, h_x0r2, hF⟩
  · have h := it_pos h (by rw [c4])
    refine lv_aload_n hx hb dX1_angleTwice_17 rfl (lv_at hl 1 rfl) ?_
    refine lv_iload_n hx hb dX1_angleTwice_18 rfl (lv_at hl 2 rfl) ?_
    refine lv_dload_n hx hb dX1_angleTwice_19 rfl (lv_at hl 0 rfl) ?_
    obtain ⟨o6, eo6, h⟩ := bind_step h
    refine r_ci (r_runV (rest := []) (As := [.int x1, .double v2]) hC 2 (m_X1_anglePut x0 x0r0 x0r1 x0r2  x0r0c x0r1c x0r2c x0f3 x0f4 x0f5 x0f6 x1 v2 o6 eo6) q1353 q1355 qs22 q46 q1356 (OA.recv hS h_x0.OA (C := RX1) rfl) hd_X1_anglePut rfl ⟨Nat.le_of_ble_eq_true rfl, Nat.le_of_ble_eq_true rfl⟩ hS ⟨h_x0, hB_h_x0, h_x0r0, hB_h_x0r0, h_x0r1, h_x0r2, hB_h_x0r2, ne_x0_x0r0, ne_x0_x0r1, ne_x0_x0r2, ne_x0r0_x0r1, ne_x0r0_x0r2, ne_x0r1_x0r2⟩ hl.1 rfl (Nat.le_of_ble_eq_true rfl) dX1_angleTwice_20 ⟨Nat.le_of_ble_eq_true rfl, Nat.le_of_ble_eq_true rfl⟩) hS (fun b H locs hp hS hz => ?_)
    obtain ⟨rfl, h_x0, h_x0r0, h_x0r2, hO⟩ := hp
    have h_x0r1 := h_x0r1.off hO (fun z => by rcases z with z | z | z <;> first | exact (Ne.symm ne_x0_x0r1) z | exact (Ne.symm ne_x0r0_x0r1) z | exact ne_x0r1_x0r2 z)
    have hF := hF.fresh hO (fun a ha z => by
      rcases z with z | z | z
      · exact Or.inl z
      · exact Or.inr (Or.inl z)
      · exact Or.inr (Or.inr (z)))
    refine lv_goto (tgt := 30) hx hb dX1_angleTwice_23 (by decide) ?_
    obtain rfl := Option.some.inj h
    rw [eQ]
    exact r_iret hx hb hr hlk hS (Nat.le_of_ble_eq_true rfl) (Nat.le_of_ble_eq_true rfl) dX1_angleTwice_30 ⟨_, rfl, rfl, h_x0, h_x0r0, h_x0r2, hF⟩

abbrev R_X1_angleKnown : Room := { frames := 12, cells := 268, slots := 2614, locals := 1494 }
noncomputable def f_X1_angleKnown (x0r0c : Nat → UInt64) (x0r1c : Nat → UInt64) (x0r2c : Nat → Int32) (x0f3 : Int32) (x0f4 : Int32) (x0f5 : Int32) (x0f6 : Int32) (x1 : Int32) (x2 : Int32) : Option (Int32 × Int32 × (Nat → UInt64) × (Nat → Int32)) :=
  Option.bind (f_X1_mustBeCell x1) fun o1 =>
  Option.bind (f_X1_isIn x2 0 7) fun o2 =>
  Option.bind (f_X1_mustFit o2) fun o3 =>
  Option.bind (f_X1_known x2) fun o4 =>
  Option.bind (f_X1_anglePut x0r0c x0r1c x0r2c x0f3 x0f4 x0f5 x0f6 x1 o4) fun o5 =>
  some (o5.1, o5.2.1, o5.2.2.1, o5.2.2.2)
theorem hd_X1_angleKnown : Hd yX1_angleKnown 2 := by unfold Hd; decide +kernel
set_option maxHeartbeats 4000000 in
set_option maxRecDepth 100000 in
theorem m_X1_angleKnown {l : Launch} {D : DD} (x0 : Nat) (x0r0 : Nat) (x0r1 : Nat) (x0r2 : Nat)  (x0r0c : Nat → UInt64) (x0r1c : Nat → UInt64) (x0r2c : Nat → Int32) (x0f3 : Int32) (x0f4 : Int32) (x0f5 : Int32) (x0f6 : Int32) (x1 : Int32) (x2 : Int32) (r : Int32 × Int32 × (Nat → UInt64) × (Nat → Int32)) (h : f_X1_angleKnown x0r0c x0r1c x0r2c x0f3 x0f4 x0f5 x0f6 x1 x2 = some r) : MT l D yX1_angleKnown cX1_angleKnown 3 (some .int) 12 1494 268 2614 [.ref x0, .int x1, .int x2] (fun H => ON D 0 x0 [.ref x0r0, .ref x0r1, .ref x0r2, .int x0f3, .int x0f4, .int x0f5, .int x0f6] H ∧ dB D ≤ x0 ∧ aD D x0r0 8 x0r0c H ∧ dB D ≤ x0r0 ∧ aD D x0r1 8 x0r1c H ∧ aZ D x0r2 8 x0r2c H ∧ dB D ≤ x0r2 ∧ x0 ≠ x0r0 ∧ x0 ≠ x0r1 ∧ x0 ≠ x0r2 ∧ x0r0 ≠ x0r1 ∧ x0r0 ≠ x0r2 ∧ x0r1 ≠ x0r2) (pI (fun H b H' => b = r.1 ∧ ON D 0 x0 [.ref x0r0, .ref x0r1, .ref x0r2, .int r.2.1, .int x0f4, .int x0f5, .int x0f6] H' ∧ aD D x0r0 8 r.2.2.1 H' ∧ aZ D x0r2 8 r.2.2.2 H' ∧ Off (fun a => a = x0 ∨ a = x0r0 ∨ a = x0r2) H H')) := by
  refine MT.start (by decide +kernel) (Nat.le_of_ble_eq_true rfl) ?_
  intro p e s m below meth c ls hC hS hp hl
  obtain ⟨h_x0, hB_h_x0, h_x0r0, hB_h_x0r0, h_x0r1, h_x0r2, hB_h_x0r2, ne_x0_x0r0, ne_x0_x0r1, ne_x0_x0r2, ne_x0r0_x0r1, ne_x0r0_x0r2, ne_x0r1_x0r2⟩ := hp
  obtain ⟨hx, hb, hr, hlk, hml, hown, hts, hnm⟩ := id hC
  have hl : lv_has ls 3 [(0, .ref x0), (1, .int x1), (2, .int x2)] := hl
  unfold f_X1_angleKnown at h
  have hS0 := hS
  obtain ⟨A, eA⟩ : ∃ A : Array Value, A = [.ref x0, .int x1, .int x2].toArray := ⟨_, rfl⟩
  rw [← eA] at hC hts ⊢
  obtain ⟨Q, eQ⟩ : ∃ Q : State → Prop, Q = MQ below (TQ D (pI (fun H b H' => b = r.1 ∧ ON D 0 x0 [.ref x0r0, .ref x0r1, .ref x0r2, .int r.2.1, .int x0f4, .int x0f5, .int x0f6] H' ∧ aD D x0r0 8 r.2.2.1 H' ∧ aZ D x0r2 8 r.2.2.2 H' ∧ Off (fun a => a = x0 ∨ a = x0r0 ∨ a = x0r2) H H'))) A s 268 2614 (fun q => dB D ≤ q) := ⟨_, rfl⟩
  have hF : Off (fun a => a = x0 ∨ a = x0r0 ∨ a = x0r2) s.heap s.heap := Off.rf
  show W p l e R_X1_angleKnown s m A below meth c s.heap [] 0 0 _ _
  rw [← eQ]
  obtain ⟨H, eH⟩ : ∃ H : Heap, H = s.heap := ⟨_, rfl⟩
  obtain ⟨locs, eLc⟩ : ∃ L : List Loc, L = [] := ⟨_, rfl⟩
  have lt_h_x0 := h_x0.lt
  have lt_h_x0r0 := h_x0r0.lt
  have lt_h_x0r1 := h_x0r1.lt
  have lt_h_x0r2 := h_x0r2.lt
  rw [← eH, ← eLc]
  have hF : Off (fun a => a = x0 ∨ a = x0r0 ∨ a = x0r2) s.heap H := by rw [eH]; exact hF
  rw [← eH] at h_x0
  rw [← eH] at h_x0r0
  rw [← eH] at h_x0r1
  rw [← eH] at h_x0r2
  have hS : St D s H locs := by rw [eH, eLc]; exact hS
  refine lv_iload_n hx hb dX1_angleKnown_0 rfl (lv_at hl 1 rfl) ?_
  obtain ⟨o1, eo1, h⟩ := bind_step h
  refine r_cpv (r_runS (rest := []) (As := [.int x1]) hC 1 (m_X1_mustBeCell   x1 o1 eo1) q956 q957 q46 q958 hd_X1_mustBeCell rfl ⟨Nat.le_of_ble_eq_true rfl, Nat.le_of_ble_eq_true rfl⟩ hS trivial hl.1 rfl (Nat.le_of_ble_eq_true rfl) dX1_angleKnown_1 ⟨Nat.le_of_ble_eq_true rfl, Nat.le_of_ble_eq_true rfl⟩) ?_
  refine lv_iload_n hx hb dX1_angleKnown_4 rfl (lv_at hl 2 rfl) ?_
  refine lv_iconst (v := 0) hx hb dX1_angleKnown_5 (by decide) ?_
  refine lv_bipush (v := 7) hx hb dX1_angleKnown_6 (by decide) ?_
  obtain ⟨o2, eo2, h⟩ := bind_step h
  refine r_cp (r_runS (rest := []) (As := [.int x2, .int 0, .int 7]) hC 3 (m_X1_isIn   x2 0 7 o2 eo2) q395 q396 q46 q397 hd_X1_isIn rfl ⟨Nat.le_of_ble_eq_true rfl, Nat.le_of_ble_eq_true rfl⟩ hS trivial hl.1 rfl (Nat.le_of_ble_eq_true rfl) dX1_angleKnown_8 ⟨Nat.le_of_ble_eq_true rfl, Nat.le_of_ble_eq_true rfl⟩) ?_
  obtain ⟨o3, eo3, h⟩ := bind_step h
  refine r_cpv (r_runS (rest := []) (As := [.int (bI o2)]) hC 1 (m_X1_mustFit   o2 o3 eo3) q1230 q1231 q46 q1232 hd_X1_mustFit rfl ⟨Nat.le_of_ble_eq_true rfl, Nat.le_of_ble_eq_true rfl⟩ hS trivial hl.1 rfl (Nat.le_of_ble_eq_true rfl) dX1_angleKnown_11 ⟨Nat.le_of_ble_eq_true rfl, Nat.le_of_ble_eq_true rfl⟩) ?_
  refine lv_aload_n hx hb dX1_angleKnown_14 rfl (lv_at hl 0 rfl) ?_
  refine lv_iload_n hx hb dX1_angleKnown_15 rfl (lv_at hl 1 rfl) ?_
  refine lv_iload_n hx hb dX1_angleKnown_16 rfl (lv_at hl 2 rfl) ?_
  obtain ⟨o4, eo4, h⟩ := bind_step h
  refine r_cp (r_runS (rest := [.int x1, .ref x0]) (As := [.int x2]) hC 1 (m_X1_known   x2 o4 eo4) q1475 q1476 q46 q1477 hd_X1_known rfl ⟨Nat.le_of_ble_eq_true rfl, Nat.le_of_ble_eq_true rfl⟩ hS trivial hl.1 rfl (Nat.le_of_ble_eq_true rfl) dX1_angleKnown_17 ⟨Nat.le_of_ble_eq_true rfl, Nat.le_of_ble_eq_true rfl⟩) ?_
  obtain ⟨o5, eo5, h⟩ := bind_step h
  refine r_ci (r_runV (rest := []) (As := [.int x1, .double o4]) hC 2 (m_X1_anglePut x0 x0r0 x0r1 x0r2  x0r0c x0r1c x0r2c x0f3 x0f4 x0f5 x0f6 x1 o4 o5 eo5) q1353 q1355 qs22 q46 q1356 (OA.recv hS h_x0.OA (C := RX1) rfl) hd_X1_anglePut rfl ⟨Nat.le_of_ble_eq_true rfl, Nat.le_of_ble_eq_true rfl⟩ hS ⟨h_x0, hB_h_x0, h_x0r0, hB_h_x0r0, h_x0r1, h_x0r2, hB_h_x0r2, ne_x0_x0r0, ne_x0_x0r1, ne_x0_x0r2, ne_x0r0_x0r1, ne_x0r0_x0r2, ne_x0r1_x0r2⟩ hl.1 rfl (Nat.le_of_ble_eq_true rfl) dX1_angleKnown_20 ⟨Nat.le_of_ble_eq_true rfl, Nat.le_of_ble_eq_true rfl⟩) hS (fun b H locs hp hS hz => ?_)
  obtain ⟨rfl, h_x0, h_x0r0, h_x0r2, hO⟩ := hp
  have h_x0r1 := h_x0r1.off hO (fun z => by rcases z with z | z | z <;> first | exact (Ne.symm ne_x0_x0r1) z | exact (Ne.symm ne_x0r0_x0r1) z | exact ne_x0r1_x0r2 z)
  have hF := hF.fresh hO (fun a ha z => by
    rcases z with z | z | z
    · exact Or.inl z
    · exact Or.inr (Or.inl z)
    · exact Or.inr (Or.inr (z)))
  obtain rfl := Option.some.inj h
  rw [eQ]
  exact r_iret hx hb hr hlk hS (Nat.le_of_ble_eq_true rfl) (Nat.le_of_ble_eq_true rfl) dX1_angleKnown_23 ⟨_, rfl, rfl, h_x0, h_x0r0, h_x0r2, hF⟩

abbrev R_X1_angleCopy : Room := { frames := 12, cells := 268, slots := 2614, locals := 1494 }
noncomputable def f_X1_angleCopy (x0r0c : Nat → UInt64) (x0r1c : Nat → UInt64) (x0r2c : Nat → Int32) (x0f3 : Int32) (x0f4 : Int32) (x0f5 : Int32) (x0f6 : Int32) (x1 : Int32) (x2 : Int32) : Option (Int32 × Int32 × (Nat → UInt64) × (Nat → Int32)) :=
  Option.bind (f_X1_angleAt x0r0c x0r1c x0r2c x0f3 x0f4 x0f5 x0f6 x1) fun o1 =>
  Option.bind (f_X1_anglePut x0r0c x0r1c x0r2c x0f3 x0f4 x0f5 x0f6 x2 o1) fun o2 =>
  some (o2.1, o2.2.1, o2.2.2.1, o2.2.2.2)
theorem hd_X1_angleCopy : Hd yX1_angleCopy 2 := by unfold Hd; decide +kernel
set_option maxHeartbeats 4000000 in
set_option maxRecDepth 100000 in
theorem m_X1_angleCopy {l : Launch} {D : DD} (x0 : Nat) (x0r0 : Nat) (x0r1 : Nat) (x0r2 : Nat)  (x0r0c : Nat → UInt64) (x0r1c : Nat → UInt64) (x0r2c : Nat → Int32) (x0f3 : Int32) (x0f4 : Int32) (x0f5 : Int32) (x0f6 : Int32) (x1 : Int32) (x2 : Int32) (r : Int32 × Int32 × (Nat → UInt64) × (Nat → Int32)) (h : f_X1_angleCopy x0r0c x0r1c x0r2c x0f3 x0f4 x0f5 x0f6 x1 x2 = some r) : MT l D yX1_angleCopy cX1_angleCopy 3 (some .int) 12 1494 268 2614 [.ref x0, .int x1, .int x2] (fun H => ON D 0 x0 [.ref x0r0, .ref x0r1, .ref x0r2, .int x0f3, .int x0f4, .int x0f5, .int x0f6] H ∧ dB D ≤ x0 ∧ aD D x0r0 8 x0r0c H ∧ dB D ≤ x0r0 ∧ aD D x0r1 8 x0r1c H ∧ aZ D x0r2 8 x0r2c H ∧ dB D ≤ x0r2 ∧ x0 ≠ x0r0 ∧ x0 ≠ x0r1 ∧ x0 ≠ x0r2 ∧ x0r0 ≠ x0r1 ∧ x0r0 ≠ x0r2 ∧ x0r1 ≠ x0r2) (pI (fun H b H' => b = r.1 ∧ ON D 0 x0 [.ref x0r0, .ref x0r1, .ref x0r2, .int r.2.1, .int x0f4, .int x0f5, .int x0f6] H' ∧ aD D x0r0 8 r.2.2.1 H' ∧ aZ D x0r2 8 r.2.2.2 H' ∧ Off (fun a => a = x0 ∨ a = x0r0 ∨ a = x0r2) H H')) := by
  refine MT.start (by decide +kernel) (Nat.le_of_ble_eq_true rfl) ?_
  intro p e s m below meth c ls hC hS hp hl
  obtain ⟨h_x0, hB_h_x0, h_x0r0, hB_h_x0r0, h_x0r1, h_x0r2, hB_h_x0r2, ne_x0_x0r0, ne_x0_x0r1, ne_x0_x0r2, ne_x0r0_x0r1, ne_x0r0_x0r2, ne_x0r1_x0r2⟩ := hp
  obtain ⟨hx, hb, hr, hlk, hml, hown, hts, hnm⟩ := id hC
  have hl : lv_has ls 3 [(0, .ref x0), (1, .int x1), (2, .int x2)] := hl
  unfold f_X1_angleCopy at h
  have hS0 := hS
  obtain ⟨A, eA⟩ : ∃ A : Array Value, A = [.ref x0, .int x1, .int x2].toArray := ⟨_, rfl⟩
  rw [← eA] at hC hts ⊢
  obtain ⟨Q, eQ⟩ : ∃ Q : State → Prop, Q = MQ below (TQ D (pI (fun H b H' => b = r.1 ∧ ON D 0 x0 [.ref x0r0, .ref x0r1, .ref x0r2, .int r.2.1, .int x0f4, .int x0f5, .int x0f6] H' ∧ aD D x0r0 8 r.2.2.1 H' ∧ aZ D x0r2 8 r.2.2.2 H' ∧ Off (fun a => a = x0 ∨ a = x0r0 ∨ a = x0r2) H H'))) A s 268 2614 (fun q => dB D ≤ q) := ⟨_, rfl⟩
  have hF : Off (fun a => a = x0 ∨ a = x0r0 ∨ a = x0r2) s.heap s.heap := Off.rf
  show W p l e R_X1_angleCopy s m A below meth c s.heap [] 0 0 _ _
  rw [← eQ]
  obtain ⟨H, eH⟩ : ∃ H : Heap, H = s.heap := ⟨_, rfl⟩
  obtain ⟨locs, eLc⟩ : ∃ L : List Loc, L = [] := ⟨_, rfl⟩
  have lt_h_x0 := h_x0.lt
  have lt_h_x0r0 := h_x0r0.lt
  have lt_h_x0r1 := h_x0r1.lt
  have lt_h_x0r2 := h_x0r2.lt
  rw [← eH, ← eLc]
  have hF : Off (fun a => a = x0 ∨ a = x0r0 ∨ a = x0r2) s.heap H := by rw [eH]; exact hF
  rw [← eH] at h_x0
  rw [← eH] at h_x0r0
  rw [← eH] at h_x0r1
  rw [← eH] at h_x0r2
  have hS : St D s H locs := by rw [eH, eLc]; exact hS
  refine lv_aload_n hx hb dX1_angleCopy_0 rfl (lv_at hl 0 rfl) ?_
  refine lv_iload_n hx hb dX1_angleCopy_1 rfl (lv_at hl 2 rfl) ?_
  refine lv_aload_n hx hb dX1_angleCopy_2 rfl (lv_at hl 0 rfl) ?_
  refine lv_iload_n hx hb dX1_angleCopy_3 rfl (lv_at hl 1 rfl) ?_
  obtain ⟨o1, eo1, h⟩ := bind_step h
  refine r_cp (r_runV (rest := [.int x2, .ref x0]) (As := [.int x1]) hC 1 (m_X1_angleAt x0 x0r0 x0r1 x0r2  x0r0c x0r1c x0r2c x0f3 x0f4 x0f5 x0f6 x1 o1 eo1) q952 q954 qs11 q46 q955 (OA.recv hS h_x0.OA (C := RX1) rfl) hd_X1_angleAt rfl ⟨Nat.le_of_ble_eq_true rfl, Nat.le_of_ble_eq_true rfl⟩ hS ⟨h_x0, h_x0r0, h_x0r1, h_x0r2⟩ hl.1 rfl (Nat.le_of_ble_eq_true rfl) dX1_angleCopy_4 ⟨Nat.le_of_ble_eq_true rfl, Nat.le_of_ble_eq_true rfl⟩) ?_
  obtain ⟨o2, eo2, h⟩ := bind_step h
  refine r_ci (r_runV (rest := []) (As := [.int x2, .double o1]) hC 2 (m_X1_anglePut x0 x0r0 x0r1 x0r2  x0r0c x0r1c x0r2c x0f3 x0f4 x0f5 x0f6 x2 o1 o2 eo2) q1353 q1355 qs22 q46 q1356 (OA.recv hS h_x0.OA (C := RX1) rfl) hd_X1_anglePut rfl ⟨Nat.le_of_ble_eq_true rfl, Nat.le_of_ble_eq_true rfl⟩ hS ⟨h_x0, hB_h_x0, h_x0r0, hB_h_x0r0, h_x0r1, h_x0r2, hB_h_x0r2, ne_x0_x0r0, ne_x0_x0r1, ne_x0_x0r2, ne_x0r0_x0r1, ne_x0r0_x0r2, ne_x0r1_x0r2⟩ hl.1 rfl (Nat.le_of_ble_eq_true rfl) dX1_angleCopy_7 ⟨Nat.le_of_ble_eq_true rfl, Nat.le_of_ble_eq_true rfl⟩) hS (fun b H locs hp hS hz => ?_)
  obtain ⟨rfl, h_x0, h_x0r0, h_x0r2, hO⟩ := hp
  have h_x0r1 := h_x0r1.off hO (fun z => by rcases z with z | z | z <;> first | exact (Ne.symm ne_x0_x0r1) z | exact (Ne.symm ne_x0r0_x0r1) z | exact ne_x0r1_x0r2 z)
  have hF := hF.fresh hO (fun a ha z => by
    rcases z with z | z | z
    · exact Or.inl z
    · exact Or.inr (Or.inl z)
    · exact Or.inr (Or.inr (z)))
  obtain rfl := Option.some.inj h
  rw [eQ]
  exact r_iret hx hb hr hlk hS (Nat.le_of_ble_eq_true rfl) (Nat.le_of_ble_eq_true rfl) dX1_angleCopy_10 ⟨_, rfl, rfl, h_x0, h_x0r0, h_x0r2, hF⟩

abbrev R_X1_angleTurn : Room := { frames := 12, cells := 268, slots := 2614, locals := 1494 }
noncomputable def f_X1_angleTurn (x0r0c : Nat → UInt64) (x0r1c : Nat → UInt64) (x0r2c : Nat → Int32) (x0f3 : Int32) (x0f4 : Int32) (x0f5 : Int32) (x0f6 : Int32) (x1 : Int32) : Option (Int32 × Int32 × (Nat → UInt64) × (Nat → Int32)) :=
  Option.bind (f_X1_angleAt x0r0c x0r1c x0r2c x0f3 x0f4 x0f5 x0f6 x1) fun o1 =>
  ltd (FP.dneg o1) fun v2 =>
  Option.bind (f_X1_anglePut x0r0c x0r1c x0r2c x0f3 x0f4 x0f5 x0f6 x1 v2) fun o3 =>
  gd 8 x1 fun i4 =>
  ltd (o3.2.2.1 i4) fun v5 =>
  Option.bind (f_X1_signOf v5) fun o6 =>
  some (o6, o3.2.1, o3.2.2.1, o3.2.2.2)
theorem hd_X1_angleTurn : Hd yX1_angleTurn 1 := by unfold Hd; decide +kernel
set_option maxHeartbeats 4000000 in
set_option maxRecDepth 100000 in
theorem m_X1_angleTurn {l : Launch} {D : DD} (x0 : Nat) (x0r0 : Nat) (x0r1 : Nat) (x0r2 : Nat)  (x0r0c : Nat → UInt64) (x0r1c : Nat → UInt64) (x0r2c : Nat → Int32) (x0f3 : Int32) (x0f4 : Int32) (x0f5 : Int32) (x0f6 : Int32) (x1 : Int32) (r : Int32 × Int32 × (Nat → UInt64) × (Nat → Int32)) (h : f_X1_angleTurn x0r0c x0r1c x0r2c x0f3 x0f4 x0f5 x0f6 x1 = some r) : MT l D yX1_angleTurn cX1_angleTurn 2 (some .int) 12 1494 268 2614 [.ref x0, .int x1] (fun H => ON D 0 x0 [.ref x0r0, .ref x0r1, .ref x0r2, .int x0f3, .int x0f4, .int x0f5, .int x0f6] H ∧ dB D ≤ x0 ∧ aD D x0r0 8 x0r0c H ∧ dB D ≤ x0r0 ∧ aD D x0r1 8 x0r1c H ∧ aZ D x0r2 8 x0r2c H ∧ dB D ≤ x0r2 ∧ x0 ≠ x0r0 ∧ x0 ≠ x0r1 ∧ x0 ≠ x0r2 ∧ x0r0 ≠ x0r1 ∧ x0r0 ≠ x0r2 ∧ x0r1 ≠ x0r2) (pI (fun H b H' => b = r.1 ∧ ON D 0 x0 [.ref x0r0, .ref x0r1, .ref x0r2, .int r.2.1, .int x0f4, .int x0f5, .int x0f6] H' ∧ aD D x0r0 8 r.2.2.1 H' ∧ aZ D x0r2 8 r.2.2.2 H' ∧ Off (fun a => a = x0 ∨ a = x0r0 ∨ a = x0r2) H H')) := by
  refine MT.start (by decide +kernel) (Nat.le_of_ble_eq_true rfl) ?_
  intro p e s m below meth c ls hC hS hp hl
  obtain ⟨h_x0, hB_h_x0, h_x0r0, hB_h_x0r0, h_x0r1, h_x0r2, hB_h_x0r2, ne_x0_x0r0, ne_x0_x0r1, ne_x0_x0r2, ne_x0r0_x0r1, ne_x0r0_x0r2, ne_x0r1_x0r2⟩ := hp
  obtain ⟨hx, hb, hr, hlk, hml, hown, hts, hnm⟩ := id hC
  have hl : lv_has ls 2 [(0, .ref x0), (1, .int x1)] := hl
  unfold f_X1_angleTurn at h
  have hS0 := hS
  obtain ⟨A, eA⟩ : ∃ A : Array Value, A = [.ref x0, .int x1].toArray := ⟨_, rfl⟩
  rw [← eA] at hC hts ⊢
  obtain ⟨Q, eQ⟩ : ∃ Q : State → Prop, Q = MQ below (TQ D (pI (fun H b H' => b = r.1 ∧ ON D 0 x0 [.ref x0r0, .ref x0r1, .ref x0r2, .int r.2.1, .int x0f4, .int x0f5, .int x0f6] H' ∧ aD D x0r0 8 r.2.2.1 H' ∧ aZ D x0r2 8 r.2.2.2 H' ∧ Off (fun a => a = x0 ∨ a = x0r0 ∨ a = x0r2) H H'))) A s 268 2614 (fun q => dB D ≤ q) := ⟨_, rfl⟩
  have hF : Off (fun a => a = x0 ∨ a = x0r0 ∨ a = x0r2) s.heap s.heap := Off.rf
  show W p l e R_X1_angleTurn s m A below meth c s.heap [] 0 0 _ _
  rw [← eQ]
  obtain ⟨H, eH⟩ : ∃ H : Heap, H = s.heap := ⟨_, rfl⟩
  obtain ⟨locs, eLc⟩ : ∃ L : List Loc, L = [] := ⟨_, rfl⟩
  have lt_h_x0 := h_x0.lt
  have lt_h_x0r0 := h_x0r0.lt
  have lt_h_x0r1 := h_x0r1.lt
  have lt_h_x0r2 := h_x0r2.lt
  rw [← eH, ← eLc]
  have hF : Off (fun a => a = x0 ∨ a = x0r0 ∨ a = x0r2) s.heap H := by rw [eH]; exact hF
  rw [← eH] at h_x0
  rw [← eH] at h_x0r0
  rw [← eH] at h_x0r1
  rw [← eH] at h_x0r2
  have hS : St D s H locs := by rw [eH, eLc]; exact hS
  refine lv_aload_n hx hb dX1_angleTurn_0 rfl (lv_at hl 0 rfl) ?_
  refine lv_iload_n hx hb dX1_angleTurn_1 rfl (lv_at hl 1 rfl) ?_
  refine lv_aload_n hx hb dX1_angleTurn_2 rfl (lv_at hl 0 rfl) ?_
  refine lv_iload_n hx hb dX1_angleTurn_3 rfl (lv_at hl 1 rfl) ?_
  obtain ⟨o1, eo1, h⟩ := bind_step h
  refine r_cp (r_runV (rest := [.int x1, .ref x0]) (As := [.int x1]) hC 1 (m_X1_angleAt x0 x0r0 x0r1 x0r2  x0r0c x0r1c x0r2c x0f3 x0f4 x0f5 x0f6 x1 o1 eo1) q952 q954 qs11 q46 q955 (OA.recv hS h_x0.OA (C := RX1) rfl) hd_X1_angleAt rfl ⟨Nat.le_of_ble_eq_true rfl, Nat.le_of_ble_eq_true rfl⟩ hS ⟨h_x0, h_x0r0, h_x0r1, h_x0r2⟩ hl.1 rfl (Nat.le_of_ble_eq_true rfl) dX1_angleTurn_4 ⟨Nat.le_of_ble_eq_true rfl, Nat.le_of_ble_eq_true rfl⟩) ?_
  obtain ⟨v2, ev2, h⟩ := ltd_step h
  refine r_dneg hx hb ev2 dX1_angleTurn_7 ?_
  obtain ⟨o3, eo3, h⟩ := bind_step h
  refine r_ci (r_runV (rest := []) (As := [.int x1, .double v2]) hC 2 (m_X1_anglePut x0 x0r0 x0r1 x0r2  x0r0c x0r1c x0r2c x0f3 x0f4 x0f5 x0f6 x1 v2 o3 eo3) q1353 q1355 qs22 q46 q1356 (OA.recv hS h_x0.OA (C := RX1) rfl) hd_X1_anglePut rfl ⟨Nat.le_of_ble_eq_true rfl, Nat.le_of_ble_eq_true rfl⟩ hS ⟨h_x0, hB_h_x0, h_x0r0, hB_h_x0r0, h_x0r1, h_x0r2, hB_h_x0r2, ne_x0_x0r0, ne_x0_x0r1, ne_x0_x0r2, ne_x0r0_x0r1, ne_x0r0_x0r2, ne_x0r1_x0r2⟩ hl.1 rfl (Nat.le_of_ble_eq_true rfl) dX1_angleTurn_8 ⟨Nat.le_of_ble_eq_true rfl, Nat.le_of_ble_eq_true rfl⟩) hS (fun b H locs hp hS hz => ?_)
  obtain ⟨rfl, h_x0, h_x0r0, h_x0r2, hO⟩ := hp
  have h_x0r1 := h_x0r1.off hO (fun z => by rcases z with z | z | z <;> first | exact (Ne.symm ne_x0_x0r1) z | exact (Ne.symm ne_x0r0_x0r1) z | exact ne_x0r1_x0r2 z)
  have hF := hF.fresh hO (fun a ha z => by
    rcases z with z | z | z
    · exact Or.inl z
    · exact Or.inr (Or.inl z)
    · exact Or.inr (Or.inr (z)))
  refine lv_pop hx hb dX1_angleTurn_11 rfl ?_
  refine lv_aload_n hx hb dX1_angleTurn_12 rfl (lv_at hl 0 rfl) ?_
  refine r_get hx hb hts hown hS h_x0.OA rfl in_X1 0 (by decide) q914 rfl (v := .ref x0r0) rfl dX1_angleTurn_13 ?_
  refine lv_iload_n hx hb dX1_angleTurn_16 rfl (lv_at hl 1 rfl) ?_
  obtain ⟨i4, xi4, h⟩ := gd_step (by decide) h
  refine r_dald hx hb hS h_x0r0 i4 xi4 dX1_angleTurn_17 ?_
  obtain ⟨v5, ev5, h⟩ := ltd_step h
  refine r_nmD ev5 ?_
  obtain ⟨o6, eo6, h⟩ := bind_step h
  refine r_cp (r_runS (rest := []) (As := [.double v5]) hC 1 (m_X1_signOf   v5 o6 eo6) q386 q387 q46 q388 hd_X1_signOf rfl ⟨Nat.le_of_ble_eq_true rfl, Nat.le_of_ble_eq_true rfl⟩ hS trivial hl.1 rfl (Nat.le_of_ble_eq_true rfl) dX1_angleTurn_18 ⟨Nat.le_of_ble_eq_true rfl, Nat.le_of_ble_eq_true rfl⟩) ?_
  obtain rfl := Option.some.inj h
  rw [eQ]
  exact r_iret hx hb hr hlk hS (Nat.le_of_ble_eq_true rfl) (Nat.le_of_ble_eq_true rfl) dX1_angleTurn_21 ⟨_, rfl, rfl, h_x0, h_x0r0, h_x0r2, hF⟩

abbrev R_X1_angleStep : Room := { frames := 12, cells := 268, slots := 2614, locals := 1494 }
noncomputable def f_X1_angleStep (x0r0c : Nat → UInt64) (x0r1c : Nat → UInt64) (x0r2c : Nat → Int32) (x0f3 : Int32) (x0f4 : Int32) (x0f5 : Int32) (x0f6 : Int32) (x1 : Int32) (x2 : Bool) : Option (Int32 × Int32 × Int32 × (Nat → UInt64) × (Nat → Int32)) :=
  Option.bind (f_X1_angleAt x0r0c x0r1c x0r2c x0f3 x0f4 x0f5 x0f6 x1) fun o1 =>
  lt (fun (v2 : UInt64) =>
  Option.bind (f_X1_eighthsOf o1) fun o4 =>
  lt (fun (v5 : Bool) =>
  (if v5 = true then
    Option.bind (f_X1_anglePut x0r0c x0r1c x0r2c x0f3 x0f4 x0f5 x0f6 x1 v2) fun o9 =>
    some (o9.1, o9.2.1, x0f5, o9.2.2.1, o9.2.2.2)
  else
    Option.bind (f_X1_refused x0r0c x0r1c x0r2c x0f3 x0f4 x0f5 x0f6) fun o8 =>
    some (o8.1, x0f3, o8.2, x0r0c, x0r2c)
  )
  ) fun K6 =>
  lt (fun (_u : Unit) =>
  K6 false
  ) fun K10 =>
  (if o4 = (-2147483648) then
    K10 ()
  else
    Option.bind (f_X1_eighthsOf v2) fun o12 =>
    (if o12 = (-2147483648) then
      K10 ()
    else
      K6 true
    )
  )
  ) fun K3 =>
  (if x2 = true then
    ck (dsubF o1 4593671619917905920) fun v16 =>
    K3 v16
  else
    ck (daddF o1 4593671619917905920) fun v15 =>
    K3 v15
  )
theorem hd_X1_angleStep : Hd yX1_angleStep 2 := by unfold Hd; decide +kernel
set_option maxHeartbeats 4000000 in
set_option maxRecDepth 100000 in
theorem m_X1_angleStep {l : Launch} {D : DD} (x0 : Nat) (x0r0 : Nat) (x0r1 : Nat) (x0r2 : Nat)  (x0r0c : Nat → UInt64) (x0r1c : Nat → UInt64) (x0r2c : Nat → Int32) (x0f3 : Int32) (x0f4 : Int32) (x0f5 : Int32) (x0f6 : Int32) (x1 : Int32) (x2 : Bool) (r : Int32 × Int32 × Int32 × (Nat → UInt64) × (Nat → Int32)) (h : f_X1_angleStep x0r0c x0r1c x0r2c x0f3 x0f4 x0f5 x0f6 x1 x2 = some r) : MT l D yX1_angleStep cX1_angleStep 8 (some .int) 12 1494 268 2614 [.ref x0, .int x1, .int (bI x2)] (fun H => ON D 0 x0 [.ref x0r0, .ref x0r1, .ref x0r2, .int x0f3, .int x0f4, .int x0f5, .int x0f6] H ∧ dB D ≤ x0 ∧ aD D x0r0 8 x0r0c H ∧ dB D ≤ x0r0 ∧ aD D x0r1 8 x0r1c H ∧ aZ D x0r2 8 x0r2c H ∧ dB D ≤ x0r2 ∧ x0 ≠ x0r0 ∧ x0 ≠ x0r1 ∧ x0 ≠ x0r2 ∧ x0r0 ≠ x0r1 ∧ x0r0 ≠ x0r2 ∧ x0r1 ≠ x0r2) (pI (fun H b H' => b = r.1 ∧ ON D 0 x0 [.ref x0r0, .ref x0r1, .ref x0r2, .int r.2.1, .int x0f4, .int r.2.2.1, .int x0f6] H' ∧ aD D x0r0 8 r.2.2.2.1 H' ∧ aZ D x0r2 8 r.2.2.2.2 H' ∧ Off (fun a => a = x0 ∨ a = x0r0 ∨ a = x0r2) H H')) := by
  refine MT.start (by decide +kernel) (Nat.le_of_ble_eq_true rfl) ?_
  intro p e s m below meth c ls hC hS hp hl
  obtain ⟨h_x0, hB_h_x0, h_x0r0, hB_h_x0r0, h_x0r1, h_x0r2, hB_h_x0r2, ne_x0_x0r0, ne_x0_x0r1, ne_x0_x0r2, ne_x0r0_x0r1, ne_x0r0_x0r2, ne_x0r1_x0r2⟩ := hp
  obtain ⟨hx, hb, hr, hlk, hml, hown, hts, hnm⟩ := id hC
  have hl : lv_has ls 8 [(0, .ref x0), (1, .int x1), (2, .int (bI x2))] := hl
  unfold f_X1_angleStep at h
  have hS0 := hS
  obtain ⟨A, eA⟩ : ∃ A : Array Value, A = [.ref x0, .int x1, .int (bI x2)].toArray := ⟨_, rfl⟩
  rw [← eA] at hC hts ⊢
  obtain ⟨Q, eQ⟩ : ∃ Q : State → Prop, Q = MQ below (TQ D (pI (fun H b H' => b = r.1 ∧ ON D 0 x0 [.ref x0r0, .ref x0r1, .ref x0r2, .int r.2.1, .int x0f4, .int r.2.2.1, .int x0f6] H' ∧ aD D x0r0 8 r.2.2.2.1 H' ∧ aZ D x0r2 8 r.2.2.2.2 H' ∧ Off (fun a => a = x0 ∨ a = x0r0 ∨ a = x0r2) H H'))) A s 268 2614 (fun q => dB D ≤ q) := ⟨_, rfl⟩
  have hF : Off (fun a => a = x0 ∨ a = x0r0 ∨ a = x0r2) s.heap s.heap := Off.rf
  show W p l e R_X1_angleStep s m A below meth c s.heap [] 0 0 _ _
  rw [← eQ]
  obtain ⟨H, eH⟩ : ∃ H : Heap, H = s.heap := ⟨_, rfl⟩
  obtain ⟨locs, eLc⟩ : ∃ L : List Loc, L = [] := ⟨_, rfl⟩
  have lt_h_x0 := h_x0.lt
  have lt_h_x0r0 := h_x0r0.lt
  have lt_h_x0r1 := h_x0r1.lt
  have lt_h_x0r2 := h_x0r2.lt
  rw [← eH, ← eLc]
  have hF : Off (fun a => a = x0 ∨ a = x0r0 ∨ a = x0r2) s.heap H := by rw [eH]; exact hF
  rw [← eH] at h_x0
  rw [← eH] at h_x0r0
  rw [← eH] at h_x0r1
  rw [← eH] at h_x0r2
  have hS : St D s H locs := by rw [eH, eLc]; exact hS
  refine lv_aload_n hx hb dX1_angleStep_0 rfl (lv_at hl 0 rfl) ?_
  refine lv_iload_n hx hb dX1_angleStep_1 rfl (lv_at hl 1 rfl) ?_
  obtain ⟨o1, eo1, h⟩ := bind_step h
  refine r_cp (r_runV (rest := []) (As := [.int x1]) hC 1 (m_X1_angleAt x0 x0r0 x0r1 x0r2  x0r0c x0r1c x0r2c x0f3 x0f4 x0f5 x0f6 x1 o1 eo1) q952 q954 qs11 q46 q955 (OA.recv hS h_x0.OA (C := RX1) rfl) hd_X1_angleAt rfl ⟨Nat.le_of_ble_eq_true rfl, Nat.le_of_ble_eq_true rfl⟩ hS ⟨h_x0, h_x0r0, h_x0r1, h_x0r2⟩ hl.1 rfl (Nat.le_of_ble_eq_true rfl) dX1_angleStep_2 ⟨Nat.le_of_ble_eq_true rfl, Nat.le_of_ble_eq_true rfl⟩) ?_
  refine lv_dstore_n (lv' := [(3, .double o1), (0, .ref x0), (1, .int x1), (2, .int (bI x2))]) hx hb dX1_angleStep_5 rfl hl (by decide) rfl (fun ls hl => ?_)
  refine lv_iload_n hx hb dX1_angleStep_6 rfl (lv_at hl 3 rfl) ?_
  obtain ⟨K3, eK3, h⟩ := lt_step h
  have HK3 : ∀ (v2 : UInt64) (h : K3 v2 = some r) (H : Heap) (locs : List Loc) (hS : St D s H locs) (hF : Off (fun a => a = x0 ∨ a = x0r0 ∨ a = x0r2) s.heap H) (h_x0 : ON D 0 x0 [.ref x0r0, .ref x0r1, .ref x0r2, .int x0f3, .int x0f4, .int x0f5, .int x0f6] H) (h_x0r0 : aD D x0r0 8 x0r0c H) (h_x0r1 : aD D x0r1 8 x0r1c H) (h_x0r2 : aZ D x0r2 8 x0r2c H) (ls : Array Slot) (hl : lv_has ls 8 [(0, .ref x0), (1, .int x1), (3, .double o1)]), W p l e R_X1_angleStep s m A below meth c H locs 0 0 Q (F0 m 23 ls [.double v2]) := by
    intro v2 h H locs hS hF h_x0 h_x0r0 h_x0r1 h_x0r2 ls hl
    subst eK3
    refine lv_dstore (lv' := [(5, .double v2), (0, .ref x0), (1, .int x1), (3, .double o1)]) hx hb dX1_angleStep_23 hl (by decide) rfl (fun ls hl => ?_)
    refine lv_dload_n hx hb dX1_angleStep_25 rfl (lv_at hl 3 rfl) ?_
    obtain ⟨o4, eo4, h⟩ := bind_step h
    refine r_cp (r_runS (rest := []) (As := [.double o1]) hC 1 (m_X1_eighthsOf   o1 o4 eo4) q357 q358 q46 q359 hd_X1_eighthsOf rfl ⟨Nat.le_of_ble_eq_true rfl, Nat.le_of_ble_eq_true rfl⟩ hS trivial hl.1 rfl (Nat.le_of_ble_eq_true rfl) dX1_angleStep_26 ⟨Nat.le_of_ble_eq_true rfl, Nat.le_of_ble_eq_true rfl⟩) ?_
    refine lv_ldc hx hb (v := (-2147483648)) hown (hts _ q379) dX1_angleStep_29 ?_
    obtain ⟨K6, eK6, h⟩ := lt_step h
    have HK6 : ∀ (v5 : Bool) (h : K6 v5 = some r) (H : Heap) (locs : List Loc) (hS : St D s H locs) (hF : Off (fun a => a = x0 ∨ a = x0r0 ∨ a = x0r2) s.heap H) (h_x0 : ON D 0 x0 [.ref x0r0, .ref x0r1, .ref x0r2, .int x0f3, .int x0f4, .int x0f5, .int x0f6] H) (h_x0r0 : aD D x0r0 8 x0r0c H) (h_x0r1 : aD D x0r1 8 x0r1c H) (h_x0r2 : aZ D x0r2 8 x0r2c H) (ls : Array Slot) (hl : lv_has ls 8 [(0, .ref x0), (1, .int x1), (5, .double v2)]), W p l e R_X1_angleStep s m A below meth c H locs 0 0 Q (F0 m 49 ls [.int (bI v5)]) := by
      intro v5 h H locs hS hF h_x0 h_x0r0 h_x0r1 h_x0r2 ls hl
      subst eK6
      refine lv_istore (lv' := [(7, .int (bI v5)), (0, .ref x0), (1, .int x1), (5, .double v2)]) hx hb dX1_angleStep_49 hl (by decide) rfl (fun ls hl => ?_)
      refine lv_iload hx hb dX1_angleStep_51 (lv_at hl 0 rfl) ?_
      refine r_ifz_eq (tgt := 66) hx hb dX1_angleStep_53 (by decide) (fun c7 => ?_) (fun c7 => ?_)
      · have h := it_neg h (by rw [c7]; decide)
        refine lv_aload_n hx hb dX1_angleStep_66 rfl (lv_at hl 1 rfl) ?_
        obtain ⟨o8, eo8, h⟩ := bind_step h
        refine r_ci (r_runV (rest := []) (As := []) hC 0 (m_X1_refused x0 x0r0 x0r1 x0r2  x0r0c x0r1c x0r2c x0f3 x0f4 x0f5 x0f6 o8 eo8) q1369 q1371 qs23 q46 q1372 (OA.recv hS h_x0.OA (C := RX1) rfl) hd_X1_refused rfl ⟨Nat.le_of_ble_eq_true rfl, Nat.le_of_ble_eq_true rfl⟩ hS ⟨h_x0, hB_h_x0, h_x0r0, h_x0r1, h_x0r2, ne_x0_x0r0, ne_x0_x0r1, ne_x0_x0r2⟩ hl.1 rfl (Nat.le_of_ble_eq_true rfl) dX1_angleStep_67 ⟨Nat.le_of_ble_eq_true rfl, Nat.le_of_ble_eq_true rfl⟩) hS (fun b H locs hp hS hz => ?_)
        obtain ⟨rfl, h_x0, hO⟩ := hp
        have h_x0r0 := h_x0r0.off hO (Ne.symm ne_x0_x0r0)
        have h_x0r1 := h_x0r1.off hO (Ne.symm ne_x0_x0r1)
        have h_x0r2 := h_x0r2.off hO (Ne.symm ne_x0_x0r2)
        have hF := hF.fresh hO (fun a ha z => Or.inl z)
        obtain rfl := Option.some.inj h
        rw [eQ]
        exact r_iret hx hb hr hlk hS (Nat.le_of_ble_eq_true rfl) (Nat.le_of_ble_eq_true rfl) dX1_angleStep_70 ⟨_, rfl, rfl, h_x0, h_x0r0, h_x0r2, hF⟩
      · have h := it_pos h (by rw [c7])
        refine lv_aload_n hx hb dX1_angleStep_56 rfl (lv_at hl 1 rfl) ?_
        refine lv_iload_n hx hb dX1_angleStep_57 rfl (lv_at hl 2 rfl) ?_
        refine lv_dload hx hb dX1_angleStep_58 (lv_at hl 3 rfl) ?_
        obtain ⟨o9, eo9, h⟩ := bind_step h
        refine r_ci (r_runV (rest := []) (As := [.int x1, .double v2]) hC 2 (m_X1_anglePut x0 x0r0 x0r1 x0r2  x0r0c x0r1c x0r2c x0f3 x0f4 x0f5 x0f6 x1 v2 o9 eo9) q1353 q1355 qs22 q46 q1356 (OA.recv hS h_x0.OA (C := RX1) rfl) hd_X1_anglePut rfl ⟨Nat.le_of_ble_eq_true rfl, Nat.le_of_ble_eq_true rfl⟩ hS ⟨h_x0, hB_h_x0, h_x0r0, hB_h_x0r0, h_x0r1, h_x0r2, hB_h_x0r2, ne_x0_x0r0, ne_x0_x0r1, ne_x0_x0r2, ne_x0r0_x0r1, ne_x0r0_x0r2, ne_x0r1_x0r2⟩ hl.1 rfl (Nat.le_of_ble_eq_true rfl) dX1_angleStep_60 ⟨Nat.le_of_ble_eq_true rfl, Nat.le_of_ble_eq_true rfl⟩) hS (fun b H locs hp hS hz => ?_)
        obtain ⟨rfl, h_x0, h_x0r0, h_x0r2, hO⟩ := hp
        have h_x0r1 := h_x0r1.off hO (fun z => by rcases z with z | z | z <;> first | exact (Ne.symm ne_x0_x0r1) z | exact (Ne.symm ne_x0r0_x0r1) z | exact ne_x0r1_x0r2 z)
        have hF := hF.fresh hO (fun a ha z => by
          rcases z with z | z | z
          · exact Or.inl z
          · exact Or.inr (Or.inl z)
          · exact Or.inr (Or.inr (z)))
        refine lv_goto (tgt := 70) hx hb dX1_angleStep_63 (by decide) ?_
        obtain rfl := Option.some.inj h
        rw [eQ]
        exact r_iret hx hb hr hlk hS (Nat.le_of_ble_eq_true rfl) (Nat.le_of_ble_eq_true rfl) dX1_angleStep_70 ⟨_, rfl, rfl, h_x0, h_x0r0, h_x0r2, hF⟩
    clear eK6
    obtain ⟨K10, eK10, h⟩ := lt_step h
    have HK10 : ∀  (h : K10 () = some r) (H : Heap) (locs : List Loc) (hS : St D s H locs) (hF : Off (fun a => a = x0 ∨ a = x0r0 ∨ a = x0r2) s.heap H) (h_x0 : ON D 0 x0 [.ref x0r0, .ref x0r1, .ref x0r2, .int x0f3, .int x0f4, .int x0f5, .int x0f6] H) (h_x0r0 : aD D x0r0 8 x0r0c H) (h_x0r1 : aD D x0r1 8 x0r1c H) (h_x0r2 : aZ D x0r2 8 x0r2c H) (ls : Array Slot) (hl : lv_has ls 8 [(0, .ref x0), (1, .int x1), (5, .double v2)]), W p l e R_X1_angleStep s m A below meth c H locs 0 0 Q (F0 m 48 ls []) := by
      intro h H locs hS hF h_x0 h_x0r0 h_x0r1 h_x0r2 ls hl
      subst eK10
      refine lv_iconst (v := 0) hx hb dX1_angleStep_48 (by decide) ?_
      exact HK6 false h H locs hS hF h_x0 h_x0r0 h_x0r1 h_x0r2 ls (lv_sub hl [0, 1, 2] rfl)
    clear eK10
    refine lv_icmp_eq (tgt := 48) hx hb dX1_angleStep_31 (by decide) (fun c11 => ?_) (fun c11 => ?_)
    · have h := it_pos h c11
      exact HK10  h H locs hS hF h_x0 h_x0r0 h_x0r1 h_x0r2 ls (lv_sub hl [1, 2, 0] rfl)
    · have h := it_neg h c11
      refine lv_dload hx hb dX1_angleStep_34 (lv_at hl 0 rfl) ?_
      obtain ⟨o12, eo12, h⟩ := bind_step h
      refine r_cp (r_runS (rest := []) (As := [.double v2]) hC 1 (m_X1_eighthsOf   v2 o12 eo12) q357 q358 q46 q359 hd_X1_eighthsOf rfl ⟨Nat.le_of_ble_eq_true rfl, Nat.le_of_ble_eq_true rfl⟩ hS trivial hl.1 rfl (Nat.le_of_ble_eq_true rfl) dX1_angleStep_36 ⟨Nat.le_of_ble_eq_true rfl, Nat.le_of_ble_eq_true rfl⟩) ?_
      refine lv_ldc hx hb (v := (-2147483648)) hown (hts _ q379) dX1_angleStep_39 ?_
      refine lv_icmp_eq (tgt := 48) hx hb dX1_angleStep_41 (by decide) (fun c13 => ?_) (fun c13 => ?_)
      · have h := it_pos h c13
        exact HK10  h H locs hS hF h_x0 h_x0r0 h_x0r1 h_x0r2 ls (lv_sub hl [1, 2, 0] rfl)
      · have h := it_neg h c13
        refine lv_iconst (v := 1) hx hb dX1_angleStep_44 (by decide) ?_
        refine lv_goto (tgt := 49) hx hb dX1_angleStep_45 (by decide) ?_
        exact HK6 true h H locs hS hF h_x0 h_x0r0 h_x0r1 h_x0r2 ls (lv_sub hl [1, 2, 0] rfl)
  clear eK3
  refine r_ifz_eq (tgt := 18) hx hb dX1_angleStep_7 (by decide) (fun c14 => ?_) (fun c14 => ?_)
  · have h := it_neg h (by rw [c14]; decide)
    refine lv_dload_n hx hb dX1_angleStep_18 rfl (lv_at hl 0 rfl) ?_
    refine lv_ldc2d hx hb (v := 4593671619917905920) hown (hts _ q910) dX1_angleStep_19 ?_
    obtain ⟨v15, ev15, nv15, h⟩ := ck_step h
    refine r_dadd hx hb ev15 nv15 dX1_angleStep_22 ?_
    exact HK3 v15 h H locs hS hF h_x0 h_x0r0 h_x0r1 h_x0r2 ls (lv_sub hl [1, 2, 0] rfl)
  · have h := it_pos h (by rw [c14])
    refine lv_dload_n hx hb dX1_angleStep_10 rfl (lv_at hl 0 rfl) ?_
    refine lv_ldc2d hx hb (v := 4593671619917905920) hown (hts _ q910) dX1_angleStep_11 ?_
    obtain ⟨v16, ev16, nv16, h⟩ := ck_step h
    refine r_dsub hx hb ev16 nv16 dX1_angleStep_14 ?_
    refine lv_goto (tgt := 23) hx hb dX1_angleStep_15 (by decide) ?_
    exact HK3 v16 h H locs hS hF h_x0 h_x0r0 h_x0r1 h_x0r2 ls (lv_sub hl [1, 2, 0] rfl)

abbrev R_X1_eighths : Room := { frames := 12, cells := 268, slots := 2614, locals := 1494 }
noncomputable def f_X1_eighths (x0r0c : Nat → UInt64) (x0r1c : Nat → UInt64) (x0r2c : Nat → Int32) (x0f3 : Int32) (x0f4 : Int32) (x0f5 : Int32) (x0f6 : Int32) (x1 : Int32) (x2 : Int32) : Option (Int32 × Int32 × (Nat → UInt64) × (Nat → Int32)) :=
  Option.bind (f_X1_mustBeCell x1) fun o1 =>
  Option.bind (f_X1_isIn x2 (-32768) 32768) fun o2 =>
  Option.bind (f_X1_mustFit o2) fun o3 =>
  ltd (i2dF x2) fun v4 =>
  ck (dmulF v4 4593671619917905920) fun v5 =>
  Option.bind (f_X1_anglePut x0r0c x0r1c x0r2c x0f3 x0f4 x0f5 x0f6 x1 v5) fun o6 =>
  some (o6.1, o6.2.1, o6.2.2.1, o6.2.2.2)
theorem hd_X1_eighths : Hd yX1_eighths 2 := by unfold Hd; decide +kernel
set_option maxHeartbeats 4000000 in
set_option maxRecDepth 100000 in
theorem m_X1_eighths {l : Launch} {D : DD} (x0 : Nat) (x0r0 : Nat) (x0r1 : Nat) (x0r2 : Nat)  (x0r0c : Nat → UInt64) (x0r1c : Nat → UInt64) (x0r2c : Nat → Int32) (x0f3 : Int32) (x0f4 : Int32) (x0f5 : Int32) (x0f6 : Int32) (x1 : Int32) (x2 : Int32) (r : Int32 × Int32 × (Nat → UInt64) × (Nat → Int32)) (h : f_X1_eighths x0r0c x0r1c x0r2c x0f3 x0f4 x0f5 x0f6 x1 x2 = some r) : MT l D yX1_eighths cX1_eighths 3 (some .int) 12 1494 268 2614 [.ref x0, .int x1, .int x2] (fun H => ON D 0 x0 [.ref x0r0, .ref x0r1, .ref x0r2, .int x0f3, .int x0f4, .int x0f5, .int x0f6] H ∧ dB D ≤ x0 ∧ aD D x0r0 8 x0r0c H ∧ dB D ≤ x0r0 ∧ aD D x0r1 8 x0r1c H ∧ aZ D x0r2 8 x0r2c H ∧ dB D ≤ x0r2 ∧ x0 ≠ x0r0 ∧ x0 ≠ x0r1 ∧ x0 ≠ x0r2 ∧ x0r0 ≠ x0r1 ∧ x0r0 ≠ x0r2 ∧ x0r1 ≠ x0r2) (pI (fun H b H' => b = r.1 ∧ ON D 0 x0 [.ref x0r0, .ref x0r1, .ref x0r2, .int r.2.1, .int x0f4, .int x0f5, .int x0f6] H' ∧ aD D x0r0 8 r.2.2.1 H' ∧ aZ D x0r2 8 r.2.2.2 H' ∧ Off (fun a => a = x0 ∨ a = x0r0 ∨ a = x0r2) H H')) := by
  refine MT.start (by decide +kernel) (Nat.le_of_ble_eq_true rfl) ?_
  intro p e s m below meth c ls hC hS hp hl
  obtain ⟨h_x0, hB_h_x0, h_x0r0, hB_h_x0r0, h_x0r1, h_x0r2, hB_h_x0r2, ne_x0_x0r0, ne_x0_x0r1, ne_x0_x0r2, ne_x0r0_x0r1, ne_x0r0_x0r2, ne_x0r1_x0r2⟩ := hp
  obtain ⟨hx, hb, hr, hlk, hml, hown, hts, hnm⟩ := id hC
  have hl : lv_has ls 3 [(0, .ref x0), (1, .int x1), (2, .int x2)] := hl
  unfold f_X1_eighths at h
  have hS0 := hS
  obtain ⟨A, eA⟩ : ∃ A : Array Value, A = [.ref x0, .int x1, .int x2].toArray := ⟨_, rfl⟩
  rw [← eA] at hC hts ⊢
  obtain ⟨Q, eQ⟩ : ∃ Q : State → Prop, Q = MQ below (TQ D (pI (fun H b H' => b = r.1 ∧ ON D 0 x0 [.ref x0r0, .ref x0r1, .ref x0r2, .int r.2.1, .int x0f4, .int x0f5, .int x0f6] H' ∧ aD D x0r0 8 r.2.2.1 H' ∧ aZ D x0r2 8 r.2.2.2 H' ∧ Off (fun a => a = x0 ∨ a = x0r0 ∨ a = x0r2) H H'))) A s 268 2614 (fun q => dB D ≤ q) := ⟨_, rfl⟩
  have hF : Off (fun a => a = x0 ∨ a = x0r0 ∨ a = x0r2) s.heap s.heap := Off.rf
  show W p l e R_X1_eighths s m A below meth c s.heap [] 0 0 _ _
  rw [← eQ]
  obtain ⟨H, eH⟩ : ∃ H : Heap, H = s.heap := ⟨_, rfl⟩
  obtain ⟨locs, eLc⟩ : ∃ L : List Loc, L = [] := ⟨_, rfl⟩
  have lt_h_x0 := h_x0.lt
  have lt_h_x0r0 := h_x0r0.lt
  have lt_h_x0r1 := h_x0r1.lt
  have lt_h_x0r2 := h_x0r2.lt
  rw [← eH, ← eLc]
  have hF : Off (fun a => a = x0 ∨ a = x0r0 ∨ a = x0r2) s.heap H := by rw [eH]; exact hF
  rw [← eH] at h_x0
  rw [← eH] at h_x0r0
  rw [← eH] at h_x0r1
  rw [← eH] at h_x0r2
  have hS : St D s H locs := by rw [eH, eLc]; exact hS
  refine lv_iload_n hx hb dX1_eighths_0 rfl (lv_at hl 1 rfl) ?_
  obtain ⟨o1, eo1, h⟩ := bind_step h
  refine r_cpv (r_runS (rest := []) (As := [.int x1]) hC 1 (m_X1_mustBeCell   x1 o1 eo1) q956 q957 q46 q958 hd_X1_mustBeCell rfl ⟨Nat.le_of_ble_eq_true rfl, Nat.le_of_ble_eq_true rfl⟩ hS trivial hl.1 rfl (Nat.le_of_ble_eq_true rfl) dX1_eighths_1 ⟨Nat.le_of_ble_eq_true rfl, Nat.le_of_ble_eq_true rfl⟩) ?_
  refine lv_iload_n hx hb dX1_eighths_4 rfl (lv_at hl 2 rfl) ?_
  refine lv_sipush (v := (-32768)) hx hb dX1_eighths_5 (by decide) ?_
  refine lv_ldc hx hb (v := 32768) hown (hts _ q1352) dX1_eighths_8 ?_
  obtain ⟨o2, eo2, h⟩ := bind_step h
  refine r_cp (r_runS (rest := []) (As := [.int x2, .int (-32768), .int 32768]) hC 3 (m_X1_isIn   x2 (-32768) 32768 o2 eo2) q395 q396 q46 q397 hd_X1_isIn rfl ⟨Nat.le_of_ble_eq_true rfl, Nat.le_of_ble_eq_true rfl⟩ hS trivial hl.1 rfl (Nat.le_of_ble_eq_true rfl) dX1_eighths_10 ⟨Nat.le_of_ble_eq_true rfl, Nat.le_of_ble_eq_true rfl⟩) ?_
  obtain ⟨o3, eo3, h⟩ := bind_step h
  refine r_cpv (r_runS (rest := []) (As := [.int (bI o2)]) hC 1 (m_X1_mustFit   o2 o3 eo3) q1230 q1231 q46 q1232 hd_X1_mustFit rfl ⟨Nat.le_of_ble_eq_true rfl, Nat.le_of_ble_eq_true rfl⟩ hS trivial hl.1 rfl (Nat.le_of_ble_eq_true rfl) dX1_eighths_13 ⟨Nat.le_of_ble_eq_true rfl, Nat.le_of_ble_eq_true rfl⟩) ?_
  refine lv_aload_n hx hb dX1_eighths_16 rfl (lv_at hl 0 rfl) ?_
  refine lv_iload_n hx hb dX1_eighths_17 rfl (lv_at hl 1 rfl) ?_
  refine lv_iload_n hx hb dX1_eighths_18 rfl (lv_at hl 2 rfl) ?_
  obtain ⟨v4, ev4, h⟩ := ltd_step h
  refine r_i2d hx hb ev4 dX1_eighths_19 ?_
  refine lv_ldc2d hx hb (v := 4593671619917905920) hown (hts _ q910) dX1_eighths_20 ?_
  obtain ⟨v5, ev5, nv5, h⟩ := ck_step h
  refine r_dmul hx hb ev5 nv5 dX1_eighths_23 ?_
  obtain ⟨o6, eo6, h⟩ := bind_step h
  refine r_ci (r_runV (rest := []) (As := [.int x1, .double v5]) hC 2 (m_X1_anglePut x0 x0r0 x0r1 x0r2  x0r0c x0r1c x0r2c x0f3 x0f4 x0f5 x0f6 x1 v5 o6 eo6) q1353 q1355 qs22 q46 q1356 (OA.recv hS h_x0.OA (C := RX1) rfl) hd_X1_anglePut rfl ⟨Nat.le_of_ble_eq_true rfl, Nat.le_of_ble_eq_true rfl⟩ hS ⟨h_x0, hB_h_x0, h_x0r0, hB_h_x0r0, h_x0r1, h_x0r2, hB_h_x0r2, ne_x0_x0r0, ne_x0_x0r1, ne_x0_x0r2, ne_x0r0_x0r1, ne_x0r0_x0r2, ne_x0r1_x0r2⟩ hl.1 rfl (Nat.le_of_ble_eq_true rfl) dX1_eighths_24 ⟨Nat.le_of_ble_eq_true rfl, Nat.le_of_ble_eq_true rfl⟩) hS (fun b H locs hp hS hz => ?_)
  obtain ⟨rfl, h_x0, h_x0r0, h_x0r2, hO⟩ := hp
  have h_x0r1 := h_x0r1.off hO (fun z => by rcases z with z | z | z <;> first | exact (Ne.symm ne_x0_x0r1) z | exact (Ne.symm ne_x0r0_x0r1) z | exact ne_x0r1_x0r2 z)
  have hF := hF.fresh hO (fun a ha z => by
    rcases z with z | z | z
    · exact Or.inl z
    · exact Or.inr (Or.inl z)
    · exact Or.inr (Or.inr (z)))
  obtain rfl := Option.some.inj h
  rw [eQ]
  exact r_iret hx hb hr hlk hS (Nat.le_of_ble_eq_true rfl) (Nat.le_of_ble_eq_true rfl) dX1_eighths_27 ⟨_, rfl, rfl, h_x0, h_x0r0, h_x0r2, hF⟩

