abbrev R_J8___HI : Room := { frames := 1, cells := 0, slots := 0, locals := 23 }
noncomputable def f_J8___HI (x0 : UInt64) : Option (Int32) :=
  ltl ((x0 : UInt64).toInt64) fun v1 =>
  ltl ((v1 : Int64) >>> ((32 : Int32).toInt64 &&& 63)) fun v2 =>
  lti (v2.toInt32) fun v3 =>
  some (v3)
theorem hd_J8___HI : Hd yJ8___HI 1 := by unfold Hd; decide +kernel
set_option maxHeartbeats 4000000 in
set_option maxRecDepth 100000 in
theorem m_J8___HI {l : Launch} {D : DD} (x0 : UInt64)  (r : Int32) (h : f_J8___HI x0 = some r) : MP l D yJ8___HI cJ8___HI 4 (some .int) 1 23 [.double x0] NoPre (some (.int r)) := by
  refine MP.start (by decide +kernel) (Nat.le_of_ble_eq_true rfl) ?_
  intro p e s m below meth c ls hC hS hp hl
  obtain ⟨hx, hb, hr, hlk, hml, hown, hts, hnm⟩ := id hC
  have hl : lv_has ls 4 [(0, .double x0)] := hl
  unfold f_J8___HI at h
  have hS0 := hS
  obtain ⟨A, eA⟩ : ∃ A : Array Value, A = [.double x0].toArray := ⟨_, rfl⟩
  rw [← eA] at hC hts ⊢
  obtain ⟨Q, eQ⟩ : ∃ Q : State → Prop, Q = MQ below (PQ (some (.int r))) A s 0 0 (fun _ => False) := ⟨_, rfl⟩
  show W p l e R_J8___HI s m A below meth c s.heap [] 0 0 _ _
  rw [← eQ]
  refine lv_dload_n hx hb dJ8___HI_0 rfl (lv_at hl 0 rfl) ?_
  refine r_d2l hC q182 q184 q183 q51 hl.1 ⟨Nat.le_of_ble_eq_true rfl, Nat.le_of_ble_eq_true rfl⟩ dJ8___HI_1 ?_
  obtain ⟨v1, ev1, h⟩ := ltl_step h
  refine r_nmL ev1 ?_
  refine lv_lstore_n (lv' := [(2, .long v1), (0, .double x0)]) hx hb dJ8___HI_4 rfl hl (by decide) rfl (fun ls hl => ?_)
  refine lv_lload_n hx hb dJ8___HI_5 rfl (lv_at hl 0 rfl) ?_
  refine lv_bipush (v := 32) hx hb dJ8___HI_6 (by decide) ?_
  obtain ⟨v2, ev2, h⟩ := ltl_step h
  refine r_lshr hx hb ev2 dJ8___HI_8 ?_
  obtain ⟨v3, ev3, h⟩ := lti_step h
  refine r_l2i hx hb ev3 dJ8___HI_9 ?_
  obtain rfl := Option.some.inj h
  rw [eQ]
  exact p_iret hx hb hr hlk dJ8___HI_10 rfl

abbrev R_J8___LO : Room := { frames := 1, cells := 0, slots := 0, locals := 23 }
noncomputable def f_J8___LO (x0 : UInt64) : Option (Int32) :=
  ltl ((x0 : UInt64).toInt64) fun v1 =>
  lti (v1.toInt32) fun v2 =>
  some (v2)
theorem hd_J8___LO : Hd yJ8___LO 1 := by unfold Hd; decide +kernel
set_option maxHeartbeats 4000000 in
set_option maxRecDepth 100000 in
theorem m_J8___LO {l : Launch} {D : DD} (x0 : UInt64)  (r : Int32) (h : f_J8___LO x0 = some r) : MP l D yJ8___LO cJ8___LO 4 (some .int) 1 23 [.double x0] NoPre (some (.int r)) := by
  refine MP.start (by decide +kernel) (Nat.le_of_ble_eq_true rfl) ?_
  intro p e s m below meth c ls hC hS hp hl
  obtain ⟨hx, hb, hr, hlk, hml, hown, hts, hnm⟩ := id hC
  have hl : lv_has ls 4 [(0, .double x0)] := hl
  unfold f_J8___LO at h
  have hS0 := hS
  obtain ⟨A, eA⟩ : ∃ A : Array Value, A = [.double x0].toArray := ⟨_, rfl⟩
  rw [← eA] at hC hts ⊢
  obtain ⟨Q, eQ⟩ : ∃ Q : State → Prop, Q = MQ below (PQ (some (.int r))) A s 0 0 (fun _ => False) := ⟨_, rfl⟩
  show W p l e R_J8___LO s m A below meth c s.heap [] 0 0 _ _
  rw [← eQ]
  refine lv_dload_n hx hb dJ8___LO_0 rfl (lv_at hl 0 rfl) ?_
  refine r_d2l hC q182 q184 q183 q51 hl.1 ⟨Nat.le_of_ble_eq_true rfl, Nat.le_of_ble_eq_true rfl⟩ dJ8___LO_1 ?_
  obtain ⟨v1, ev1, h⟩ := ltl_step h
  refine r_nmL ev1 ?_
  refine lv_lstore_n (lv' := [(2, .long v1), (0, .double x0)]) hx hb dJ8___LO_4 rfl hl (by decide) rfl (fun ls hl => ?_)
  refine lv_lload_n hx hb dJ8___LO_5 rfl (lv_at hl 0 rfl) ?_
  obtain ⟨v2, ev2, h⟩ := lti_step h
  refine r_l2i hx hb ev2 dJ8___LO_6 ?_
  obtain rfl := Option.some.inj h
  rw [eQ]
  exact p_iret hx hb hr hlk dJ8___LO_7 rfl

abbrev R_J8___LO_2 : Room := { frames := 1, cells := 0, slots := 0, locals := 23 }
noncomputable def f_J8___LO_2 (x0 : UInt64) (x2 : Int32) : Option (UInt64) :=
  ltl ((x0 : UInt64).toInt64) fun v1 =>
  ltl ((v1 &&& (-4294967296) : Int64)) fun v2 =>
  ltl (x2.toInt64) fun v3 =>
  ltl ((v3 &&& 4294967295 : Int64)) fun v4 =>
  ltl ((v2 ||| v4 : Int64)) fun v5 =>
  ask (!vn_snl2d v5) <|
  ltd ((v5 : Int64).toUInt64) fun v7 =>
  some (v7)
theorem hd_J8___LO_2 : Hd yJ8___LO_2 2 := by unfold Hd; decide +kernel
set_option maxHeartbeats 4000000 in
set_option maxRecDepth 100000 in
theorem m_J8___LO_2 {l : Launch} {D : DD} (x0 : UInt64) (x2 : Int32)  (r : UInt64) (h : f_J8___LO_2 x0 x2 = some r) : MP l D yJ8___LO_2 cJ8___LO_2 5 (some .double) 1 23 [.double x0, .int x2] NoPre (some (.double r)) := by
  refine MP.start (by decide +kernel) (Nat.le_of_ble_eq_true rfl) ?_
  intro p e s m below meth c ls hC hS hp hl
  obtain ⟨hx, hb, hr, hlk, hml, hown, hts, hnm⟩ := id hC
  have hl : lv_has ls 5 [(0, .double x0), (2, .int x2)] := hl
  unfold f_J8___LO_2 at h
  have hS0 := hS
  obtain ⟨A, eA⟩ : ∃ A : Array Value, A = [.double x0, .int x2].toArray := ⟨_, rfl⟩
  rw [← eA] at hC hts ⊢
  obtain ⟨Q, eQ⟩ : ∃ Q : State → Prop, Q = MQ below (PQ (some (.double r))) A s 0 0 (fun _ => False) := ⟨_, rfl⟩
  show W p l e R_J8___LO_2 s m A below meth c s.heap [] 0 0 _ _
  rw [← eQ]
  refine lv_dload_n hx hb dJ8___LO_2_0 rfl (lv_at hl 0 rfl) ?_
  refine r_d2l hC q182 q184 q183 q51 hl.1 ⟨Nat.le_of_ble_eq_true rfl, Nat.le_of_ble_eq_true rfl⟩ dJ8___LO_2_1 ?_
  obtain ⟨v1, ev1, h⟩ := ltl_step h
  refine r_nmL ev1 ?_
  refine lv_lstore_n (lv' := [(3, .long v1), (0, .double x0), (2, .int x2)]) hx hb dJ8___LO_2_4 rfl hl (by decide) rfl (fun ls hl => ?_)
  refine lv_lload_n hx hb dJ8___LO_2_5 rfl (lv_at hl 0 rfl) ?_
  refine lv_ldc2 hx hb (v := (-4294967296)) hown (hts _ q233) dJ8___LO_2_6 ?_
  obtain ⟨v2, ev2, h⟩ := ltl_step h
  refine r_land hx hb ev2 dJ8___LO_2_9 ?_
  refine lv_iload_n hx hb dJ8___LO_2_10 rfl (lv_at hl 2 rfl) ?_
  obtain ⟨v3, ev3, h⟩ := ltl_step h
  refine r_i2l hx hb ev3 dJ8___LO_2_11 ?_
  refine lv_ldc2 hx hb (v := 4294967295) hown (hts _ q234) dJ8___LO_2_12 ?_
  obtain ⟨v4, ev4, h⟩ := ltl_step h
  refine r_land hx hb ev4 dJ8___LO_2_15 ?_
  obtain ⟨v5, ev5, h⟩ := ltl_step h
  refine r_lor hx hb ev5 dJ8___LO_2_16 ?_
  obtain ⟨b6, h⟩ := ask_step h
  refine r_l2d hC q235 q219 q218 q51 (by simpa using b6) hl.1 ⟨Nat.le_of_ble_eq_true rfl, Nat.le_of_ble_eq_true rfl⟩ dJ8___LO_2_17 ?_
  obtain ⟨v7, ev7, h⟩ := ltd_step h
  refine r_nmD ev7 ?_
  obtain rfl := Option.some.inj h
  rw [eQ]
  exact p_dret hx hb hr hlk dJ8___LO_2_20 rfl

abbrev R_J8___HI_2 : Room := { frames := 1, cells := 0, slots := 0, locals := 23 }
noncomputable def f_J8___HI_2 (x0 : UInt64) (x2 : Int32) : Option (UInt64) :=
  ltl ((x0 : UInt64).toInt64) fun v1 =>
  ltl ((v1 &&& 4294967295 : Int64)) fun v2 =>
  ltl (x2.toInt64) fun v3 =>
  ltl ((v3 : Int64) <<< ((32 : Int32).toInt64 &&& 63)) fun v4 =>
  ltl ((v2 ||| v4 : Int64)) fun v5 =>
  ask (!vn_snl2d v5) <|
  ltd ((v5 : Int64).toUInt64) fun v7 =>
  some (v7)
theorem hd_J8___HI_2 : Hd yJ8___HI_2 2 := by unfold Hd; decide +kernel
set_option maxHeartbeats 4000000 in
set_option maxRecDepth 100000 in
theorem m_J8___HI_2 {l : Launch} {D : DD} (x0 : UInt64) (x2 : Int32)  (r : UInt64) (h : f_J8___HI_2 x0 x2 = some r) : MP l D yJ8___HI_2 cJ8___HI_2 5 (some .double) 1 23 [.double x0, .int x2] NoPre (some (.double r)) := by
  refine MP.start (by decide +kernel) (Nat.le_of_ble_eq_true rfl) ?_
  intro p e s m below meth c ls hC hS hp hl
  obtain ⟨hx, hb, hr, hlk, hml, hown, hts, hnm⟩ := id hC
  have hl : lv_has ls 5 [(0, .double x0), (2, .int x2)] := hl
  unfold f_J8___HI_2 at h
  have hS0 := hS
  obtain ⟨A, eA⟩ : ∃ A : Array Value, A = [.double x0, .int x2].toArray := ⟨_, rfl⟩
  rw [← eA] at hC hts ⊢
  obtain ⟨Q, eQ⟩ : ∃ Q : State → Prop, Q = MQ below (PQ (some (.double r))) A s 0 0 (fun _ => False) := ⟨_, rfl⟩
  show W p l e R_J8___HI_2 s m A below meth c s.heap [] 0 0 _ _
  rw [← eQ]
  refine lv_dload_n hx hb dJ8___HI_2_0 rfl (lv_at hl 0 rfl) ?_
  refine r_d2l hC q182 q184 q183 q51 hl.1 ⟨Nat.le_of_ble_eq_true rfl, Nat.le_of_ble_eq_true rfl⟩ dJ8___HI_2_1 ?_
  obtain ⟨v1, ev1, h⟩ := ltl_step h
  refine r_nmL ev1 ?_
  refine lv_lstore_n (lv' := [(3, .long v1), (0, .double x0), (2, .int x2)]) hx hb dJ8___HI_2_4 rfl hl (by decide) rfl (fun ls hl => ?_)
  refine lv_lload_n hx hb dJ8___HI_2_5 rfl (lv_at hl 0 rfl) ?_
  refine lv_ldc2 hx hb (v := 4294967295) hown (hts _ q234) dJ8___HI_2_6 ?_
  obtain ⟨v2, ev2, h⟩ := ltl_step h
  refine r_land hx hb ev2 dJ8___HI_2_9 ?_
  refine lv_iload_n hx hb dJ8___HI_2_10 rfl (lv_at hl 2 rfl) ?_
  obtain ⟨v3, ev3, h⟩ := ltl_step h
  refine r_i2l hx hb ev3 dJ8___HI_2_11 ?_
  refine lv_bipush (v := 32) hx hb dJ8___HI_2_12 (by decide) ?_
  obtain ⟨v4, ev4, h⟩ := ltl_step h
  refine r_lshl hx hb ev4 dJ8___HI_2_14 ?_
  obtain ⟨v5, ev5, h⟩ := ltl_step h
  refine r_lor hx hb ev5 dJ8___HI_2_15 ?_
  obtain ⟨b6, h⟩ := ask_step h
  refine r_l2d hC q235 q219 q218 q51 (by simpa using b6) hl.1 ⟨Nat.le_of_ble_eq_true rfl, Nat.le_of_ble_eq_true rfl⟩ dJ8___HI_2_16 ?_
  obtain ⟨v7, ev7, h⟩ := ltd_step h
  refine r_nmD ev7 ?_
  obtain rfl := Option.some.inj h
  rw [eQ]
  exact p_dret hx hb hr hlk dJ8___HI_2_19 rfl

abbrev R_J8___HI_LO : Room := { frames := 1, cells := 0, slots := 0, locals := 23 }
noncomputable def f_J8___HI_LO (x0 : Int32) (x1 : Int32) : Option (UInt64) :=
  ltl (x0.toInt64) fun v1 =>
  ltl ((v1 : Int64) <<< ((32 : Int32).toInt64 &&& 63)) fun v2 =>
  ltl (x1.toInt64) fun v3 =>
  ltl ((v3 &&& 4294967295 : Int64)) fun v4 =>
  ltl ((v2 ||| v4 : Int64)) fun v5 =>
  ask (!vn_snl2d v5) <|
  ltd ((v5 : Int64).toUInt64) fun v7 =>
  some (v7)
theorem hd_J8___HI_LO : Hd yJ8___HI_LO 2 := by unfold Hd; decide +kernel
set_option maxHeartbeats 4000000 in
set_option maxRecDepth 100000 in
theorem m_J8___HI_LO {l : Launch} {D : DD} (x0 : Int32) (x1 : Int32)  (r : UInt64) (h : f_J8___HI_LO x0 x1 = some r) : MP l D yJ8___HI_LO cJ8___HI_LO 2 (some .double) 1 23 [.int x0, .int x1] NoPre (some (.double r)) := by
  refine MP.start (by decide +kernel) (Nat.le_of_ble_eq_true rfl) ?_
  intro p e s m below meth c ls hC hS hp hl
  obtain ⟨hx, hb, hr, hlk, hml, hown, hts, hnm⟩ := id hC
  have hl : lv_has ls 2 [(0, .int x0), (1, .int x1)] := hl
  unfold f_J8___HI_LO at h
  have hS0 := hS
  obtain ⟨A, eA⟩ : ∃ A : Array Value, A = [.int x0, .int x1].toArray := ⟨_, rfl⟩
  rw [← eA] at hC hts ⊢
  obtain ⟨Q, eQ⟩ : ∃ Q : State → Prop, Q = MQ below (PQ (some (.double r))) A s 0 0 (fun _ => False) := ⟨_, rfl⟩
  show W p l e R_J8___HI_LO s m A below meth c s.heap [] 0 0 _ _
  rw [← eQ]
  refine lv_iload_n hx hb dJ8___HI_LO_0 rfl (lv_at hl 0 rfl) ?_
  obtain ⟨v1, ev1, h⟩ := ltl_step h
  refine r_i2l hx hb ev1 dJ8___HI_LO_1 ?_
  refine lv_bipush (v := 32) hx hb dJ8___HI_LO_2 (by decide) ?_
  obtain ⟨v2, ev2, h⟩ := ltl_step h
  refine r_lshl hx hb ev2 dJ8___HI_LO_4 ?_
  refine lv_iload_n hx hb dJ8___HI_LO_5 rfl (lv_at hl 1 rfl) ?_
  obtain ⟨v3, ev3, h⟩ := ltl_step h
  refine r_i2l hx hb ev3 dJ8___HI_LO_6 ?_
  refine lv_ldc2 hx hb (v := 4294967295) hown (hts _ q234) dJ8___HI_LO_7 ?_
  obtain ⟨v4, ev4, h⟩ := ltl_step h
  refine r_land hx hb ev4 dJ8___HI_LO_10 ?_
  obtain ⟨v5, ev5, h⟩ := ltl_step h
  refine r_lor hx hb ev5 dJ8___HI_LO_11 ?_
  obtain ⟨b6, h⟩ := ask_step h
  refine r_l2d hC q235 q219 q218 q51 (by simpa using b6) hl.1 ⟨Nat.le_of_ble_eq_true rfl, Nat.le_of_ble_eq_true rfl⟩ dJ8___HI_LO_12 ?_
  obtain ⟨v7, ev7, h⟩ := ltd_step h
  refine r_nmD ev7 ?_
  obtain rfl := Option.some.inj h
  rw [eQ]
  exact p_dret hx hb hr hlk dJ8___HI_LO_15 rfl

abbrev R_J7___kernel_sin : Room := { frames := 2, cells := 0, slots := 0, locals := 46 }
noncomputable def f_J7___kernel_sin (x0 : UInt64) (x2 : UInt64) (x4 : Int32) : Option (UInt64) :=
  Option.bind (f_J8___HI x0) fun o1 =>
  lti (o1 &&& 2147483647) fun v2 =>
  lt (fun (_u : Unit) =>
  ck (dmulF x0 x0) fun v4 =>
  ck (dmulF v4 x0) fun v5 =>
  ck (dmulF v4 4460209850635244924) fun v6 =>
  ck (daddF 13716528393433619691 v6) fun v7 =>
  ck (dmulF v4 v7) fun v8 =>
  ck (daddF 4523617212983017085 v8) fun v9 =>
  ck (dmulF v4 v9) fun v10 =>
  ck (daddF 13774824197404582357 v10) fun v11 =>
  ck (dmulF v4 v11) fun v12 =>
  ck (daddF 4575957461383575718 v12) fun v13 =>
  (if x4 = 0 then
    ck (dmulF v4 v13) fun v23 =>
    ck (daddF 13818544856648471881 v23) fun v24 =>
    ck (dmulF v5 v24) fun v25 =>
    ck (daddF x0 v25) fun v26 =>
    some (v26)
  else
    ck (dmulF 4602678819172646912 x2) fun v15 =>
    ck (dmulF v5 v13) fun v16 =>
    ck (dsubF v15 v16) fun v17 =>
    ck (dmulF v4 v17) fun v18 =>
    ck (dsubF v18 x2) fun v19 =>
    ck (dmulF v5 13818544856648471881) fun v20 =>
    ck (dsubF v19 v20) fun v21 =>
    ck (dsubF x0 v21) fun v22 =>
    some (v22)
  )
  ) fun K3 =>
  (if 1044381696 ≤ v2 then
    K3 ()
  else
    lti (d2iF x0) fun v28 =>
    (if v28 = 0 then
      some (x0)
    else
      K3 ()
    )
  )
theorem hd_J7___kernel_sin : Hd yJ7___kernel_sin 3 := by unfold Hd; decide +kernel
set_option maxHeartbeats 4000000 in
set_option maxRecDepth 100000 in
theorem m_J7___kernel_sin {l : Launch} {D : DD} (x0 : UInt64) (x2 : UInt64) (x4 : Int32)  (r : UInt64) (h : f_J7___kernel_sin x0 x2 x4 = some r) : MP l D yJ7___kernel_sin cJ7___kernel_sin 12 (some .double) 2 46 [.double x0, .double x2, .int x4] NoPre (some (.double r)) := by
  refine MP.start (by decide +kernel) (Nat.le_of_ble_eq_true rfl) ?_
  intro p e s m below meth c ls hC hS hp hl
  obtain ⟨hx, hb, hr, hlk, hml, hown, hts, hnm⟩ := id hC
  have hl : lv_has ls 12 [(0, .double x0), (2, .double x2), (4, .int x4)] := hl
  unfold f_J7___kernel_sin at h
  have hS0 := hS
  obtain ⟨A, eA⟩ : ∃ A : Array Value, A = [.double x0, .double x2, .int x4].toArray := ⟨_, rfl⟩
  rw [← eA] at hC hts ⊢
  obtain ⟨Q, eQ⟩ : ∃ Q : State → Prop, Q = MQ below (PQ (some (.double r))) A s 0 0 (fun _ => False) := ⟨_, rfl⟩
  show W p l e R_J7___kernel_sin s m A below meth c s.heap [] 0 0 _ _
  rw [← eQ]
  refine lv_dload_n hx hb dJ7___kernel_sin_0 rfl (lv_at hl 0 rfl) ?_
  obtain ⟨o1, eo1, h⟩ := bind_step h
  refine r_cp (r_runSN (rest := []) (As := [.double x0]) hC 1 (m_J8___HI x0  o1 eo1) q179 q180 q49 q181 hd_J8___HI rfl ⟨Nat.le_of_ble_eq_true rfl, Nat.le_of_ble_eq_true rfl⟩ hS trivial hl.1 rfl (Nat.le_of_ble_eq_true rfl) dJ7___kernel_sin_1 ⟨Nat.le_of_ble_eq_true rfl, Nat.le_of_ble_eq_true rfl⟩) ?_
  refine lv_ldc hx hb (v := 2147483647) hown (hts _ q185) dJ7___kernel_sin_4 ?_
  obtain ⟨v2, ev2, h⟩ := lti_step h
  refine r_iand hx hb ev2 dJ7___kernel_sin_6 ?_
  refine lv_istore (lv' := [(11, .int v2), (0, .double x0), (2, .double x2), (4, .int x4)]) hx hb dJ7___kernel_sin_7 hl (by decide) rfl (fun ls hl => ?_)
  refine lv_iload hx hb dJ7___kernel_sin_9 (lv_at hl 0 rfl) ?_
  refine lv_ldc hx hb (v := 1044381696) hown (hts _ q190) dJ7___kernel_sin_11 ?_
  obtain ⟨K3, eK3, h⟩ := lt_step h
  have HK3 : ∀  (h : K3 () = some r)  (ls : Array Slot) (hl : lv_has ls 12 [(0, .double x0), (2, .double x2), (4, .int x4)]), W p l e R_J7___kernel_sin s m A below meth c s.heap [] 0 0 Q (F0 m 23 ls []) := by
    intro h ls hl
    subst eK3
    refine lv_dload_n hx hb dJ7___kernel_sin_23 rfl (lv_at hl 0 rfl) ?_
    refine lv_dload_n hx hb dJ7___kernel_sin_24 rfl (lv_at hl 0 rfl) ?_
    obtain ⟨v4, ev4, nv4, h⟩ := ck_step h
    refine r_dmul hx hb ev4 nv4 dJ7___kernel_sin_25 ?_
    refine lv_dstore (lv' := [(5, .double v4), (0, .double x0), (2, .double x2), (4, .int x4)]) hx hb dJ7___kernel_sin_26 hl (by decide) rfl (fun ls hl => ?_)
    refine lv_dload hx hb dJ7___kernel_sin_28 (lv_at hl 0 rfl) ?_
    refine lv_dload_n hx hb dJ7___kernel_sin_30 rfl (lv_at hl 1 rfl) ?_
    obtain ⟨v5, ev5, nv5, h⟩ := ck_step h
    refine r_dmul hx hb ev5 nv5 dJ7___kernel_sin_31 ?_
    refine lv_dstore (lv' := [(9, .double v5), (5, .double v4), (0, .double x0), (2, .double x2), (4, .int x4)]) hx hb dJ7___kernel_sin_32 hl (by decide) rfl (fun ls hl => ?_)
    refine lv_ldc2d hx hb (v := 4575957461383575718) hown (hts _ q191) dJ7___kernel_sin_34 ?_
    refine lv_dload hx hb dJ7___kernel_sin_37 (lv_at hl 1 rfl) ?_
    refine lv_ldc2d hx hb (v := 13774824197404582357) hown (hts _ q192) dJ7___kernel_sin_39 ?_
    refine lv_dload hx hb dJ7___kernel_sin_42 (lv_at hl 1 rfl) ?_
    refine lv_ldc2d hx hb (v := 4523617212983017085) hown (hts _ q193) dJ7___kernel_sin_44 ?_
    refine lv_dload hx hb dJ7___kernel_sin_47 (lv_at hl 1 rfl) ?_
    refine lv_ldc2d hx hb (v := 13716528393433619691) hown (hts _ q194) dJ7___kernel_sin_49 ?_
    refine lv_dload hx hb dJ7___kernel_sin_52 (lv_at hl 1 rfl) ?_
    refine lv_ldc2d hx hb (v := 4460209850635244924) hown (hts _ q195) dJ7___kernel_sin_54 ?_
    obtain ⟨v6, ev6, nv6, h⟩ := ck_step h
    refine r_dmul hx hb ev6 nv6 dJ7___kernel_sin_57 ?_
    obtain ⟨v7, ev7, nv7, h⟩ := ck_step h
    refine r_dadd hx hb ev7 nv7 dJ7___kernel_sin_58 ?_
    obtain ⟨v8, ev8, nv8, h⟩ := ck_step h
    refine r_dmul hx hb ev8 nv8 dJ7___kernel_sin_59 ?_
    obtain ⟨v9, ev9, nv9, h⟩ := ck_step h
    refine r_dadd hx hb ev9 nv9 dJ7___kernel_sin_60 ?_
    obtain ⟨v10, ev10, nv10, h⟩ := ck_step h
    refine r_dmul hx hb ev10 nv10 dJ7___kernel_sin_61 ?_
    obtain ⟨v11, ev11, nv11, h⟩ := ck_step h
    refine r_dadd hx hb ev11 nv11 dJ7___kernel_sin_62 ?_
    obtain ⟨v12, ev12, nv12, h⟩ := ck_step h
    refine r_dmul hx hb ev12 nv12 dJ7___kernel_sin_63 ?_
    obtain ⟨v13, ev13, nv13, h⟩ := ck_step h
    refine r_dadd hx hb ev13 nv13 dJ7___kernel_sin_64 ?_
    refine lv_dstore (lv' := [(7, .double v13), (9, .double v5), (5, .double v4), (0, .double x0), (2, .double x2), (4, .int x4)]) hx hb dJ7___kernel_sin_65 hl (by decide) rfl (fun ls hl => ?_)
    refine lv_iload hx hb dJ7___kernel_sin_67 (lv_at hl 5 rfl) ?_
    refine lv_if_ne (tgt := 87) hx hb dJ7___kernel_sin_69 (by decide) (fun c14 => ?_) (fun c14 => ?_)
    · have h := it_neg h c14
      refine lv_dload_n hx hb dJ7___kernel_sin_87 rfl (lv_at hl 3 rfl) ?_
      refine lv_dload hx hb dJ7___kernel_sin_88 (lv_at hl 2 rfl) ?_
      refine lv_ldc2d hx hb (v := 4602678819172646912) hown (hts _ q197) dJ7___kernel_sin_90 ?_
      refine lv_dload_n hx hb dJ7___kernel_sin_93 rfl (lv_at hl 4 rfl) ?_
      obtain ⟨v15, ev15, nv15, h⟩ := ck_step h
      refine r_dmul hx hb ev15 nv15 dJ7___kernel_sin_94 ?_
      refine lv_dload hx hb dJ7___kernel_sin_95 (lv_at hl 1 rfl) ?_
      refine lv_dload hx hb dJ7___kernel_sin_97 (lv_at hl 0 rfl) ?_
      obtain ⟨v16, ev16, nv16, h⟩ := ck_step h
      refine r_dmul hx hb ev16 nv16 dJ7___kernel_sin_99 ?_
      obtain ⟨v17, ev17, nv17, h⟩ := ck_step h
      refine r_dsub hx hb ev17 nv17 dJ7___kernel_sin_100 ?_
      obtain ⟨v18, ev18, nv18, h⟩ := ck_step h
      refine r_dmul hx hb ev18 nv18 dJ7___kernel_sin_101 ?_
      refine lv_dload_n hx hb dJ7___kernel_sin_102 rfl (lv_at hl 4 rfl) ?_
      obtain ⟨v19, ev19, nv19, h⟩ := ck_step h
      refine r_dsub hx hb ev19 nv19 dJ7___kernel_sin_103 ?_
      refine lv_dload hx hb dJ7___kernel_sin_104 (lv_at hl 1 rfl) ?_
      refine lv_ldc2d hx hb (v := 13818544856648471881) hown (hts _ q196) dJ7___kernel_sin_106 ?_
      obtain ⟨v20, ev20, nv20, h⟩ := ck_step h
      refine r_dmul hx hb ev20 nv20 dJ7___kernel_sin_109 ?_
      obtain ⟨v21, ev21, nv21, h⟩ := ck_step h
      refine r_dsub hx hb ev21 nv21 dJ7___kernel_sin_110 ?_
      obtain ⟨v22, ev22, nv22, h⟩ := ck_step h
      refine r_dsub hx hb ev22 nv22 dJ7___kernel_sin_111 ?_
      obtain rfl := Option.some.inj h
      rw [eQ]
      exact p_dret hx hb hr hlk dJ7___kernel_sin_112 rfl
    · have h := it_pos h c14
      refine lv_dload_n hx hb dJ7___kernel_sin_72 rfl (lv_at hl 3 rfl) ?_
      refine lv_dload hx hb dJ7___kernel_sin_73 (lv_at hl 1 rfl) ?_
      refine lv_ldc2d hx hb (v := 13818544856648471881) hown (hts _ q196) dJ7___kernel_sin_75 ?_
      refine lv_dload hx hb dJ7___kernel_sin_78 (lv_at hl 2 rfl) ?_
      refine lv_dload hx hb dJ7___kernel_sin_80 (lv_at hl 0 rfl) ?_
      obtain ⟨v23, ev23, nv23, h⟩ := ck_step h
      refine r_dmul hx hb ev23 nv23 dJ7___kernel_sin_82 ?_
      obtain ⟨v24, ev24, nv24, h⟩ := ck_step h
      refine r_dadd hx hb ev24 nv24 dJ7___kernel_sin_83 ?_
      obtain ⟨v25, ev25, nv25, h⟩ := ck_step h
      refine r_dmul hx hb ev25 nv25 dJ7___kernel_sin_84 ?_
      obtain ⟨v26, ev26, nv26, h⟩ := ck_step h
      refine r_dadd hx hb ev26 nv26 dJ7___kernel_sin_85 ?_
      obtain rfl := Option.some.inj h
      rw [eQ]
      exact p_dret hx hb hr hlk dJ7___kernel_sin_86 rfl
  clear eK3
  refine lv_icmp_ge (tgt := 23) hx hb dJ7___kernel_sin_13 (by decide) (fun c27 => ?_) (fun c27 => ?_)
  · have h := it_pos h c27
    exact HK3  h  ls (lv_sub hl [1, 2, 3] rfl)
  · have h := it_neg h c27
    refine lv_dload_n hx hb dJ7___kernel_sin_16 rfl (lv_at hl 1 rfl) ?_
    obtain ⟨v28, ev28, h⟩ := lti_step h
    refine r_d2i hx hb ev28 dJ7___kernel_sin_17 ?_
    refine lv_if_ne (tgt := 23) hx hb dJ7___kernel_sin_18 (by decide) (fun c29 => ?_) (fun c29 => ?_)
    · have h := it_neg h c29
      exact HK3  h  ls (lv_sub hl [1, 2, 3] rfl)
    · have h := it_pos h c29
      refine lv_dload_n hx hb dJ7___kernel_sin_21 rfl (lv_at hl 1 rfl) ?_
      obtain rfl := Option.some.inj h
      rw [eQ]
      exact p_dret hx hb hr hlk dJ7___kernel_sin_22 rfl

abbrev R_J14___kernel_cos : Room := { frames := 2, cells := 0, slots := 0, locals := 46 }
noncomputable def f_J14___kernel_cos (x0 : UInt64) (x2 : UInt64) : Option (UInt64) :=
  Option.bind (f_J8___HI x0) fun o1 =>
  lti (o1 &&& 2147483647) fun v2 =>
  lt (fun (_u : Unit) =>
  ck (dmulF x0 x0) fun v4 =>
  ck (dmulF v4 13666448951086692564) fun v5 =>
  ck (daddF 4477121870137962948 v5) fun v6 =>
  ck (dmulF v4 v6) fun v7 =>
  ck (daddF 13732177093731308205 v7) fun v8 =>
  ck (dmulF v4 v8) fun v9 =>
  ck (daddF 4537941361668330896 v9) fun v10 =>
  ck (dmulF v4 v10) fun v11 =>
  ck (daddF 13787419979223748983 v11) fun v12 =>
  ck (dmulF v4 v12) fun v13 =>
  ck (daddF 4586165620538955084 v13) fun v14 =>
  ck (dmulF v4 v14) fun v15 =>
  (if 1070805811 ≤ v2 then
    lt (fun (v17 : UInt64) =>
    ck (dmulF 4602678819172646912 v4) fun v19 =>
    ck (dsubF v19 v17) fun v20 =>
    ck (dsubF 4607182418800017408 v17) fun v21 =>
    ck (dmulF v4 v15) fun v22 =>
    ck (dmulF x0 x2) fun v23 =>
    ck (dsubF v22 v23) fun v24 =>
    ck (dsubF v20 v24) fun v25 =>
    ck (dsubF v21 v25) fun v26 =>
    some (v26)
    ) fun K18 =>
    (if v2 ≤ 1072234496 then
      lti (v2 - 2097152) fun v28 =>
      Option.bind (f_J8___HI_LO v28 0) fun o29 =>
      K18 o29
    else
      K18 4598738169498697728
    )
  else
    ck (dmulF 4602678819172646912 v4) fun v30 =>
    ck (dmulF v4 v15) fun v31 =>
    ck (dmulF x0 x2) fun v32 =>
    ck (dsubF v31 v32) fun v33 =>
    ck (dsubF v30 v33) fun v34 =>
    ck (dsubF 4607182418800017408 v34) fun v35 =>
    some (v35)
  )
  ) fun K3 =>
  (if 1044381696 ≤ v2 then
    K3 ()
  else
    lti (d2iF x0) fun v37 =>
    (if v37 = 0 then
      some (4607182418800017408)
    else
      K3 ()
    )
  )
theorem hd_J14___kernel_cos : Hd yJ14___kernel_cos 2 := by unfold Hd; decide +kernel
set_option maxHeartbeats 4000000 in
set_option maxRecDepth 100000 in
theorem m_J14___kernel_cos {l : Launch} {D : DD} (x0 : UInt64) (x2 : UInt64)  (r : UInt64) (h : f_J14___kernel_cos x0 x2 = some r) : MP l D yJ14___kernel_cos cJ14___kernel_cos 15 (some .double) 2 46 [.double x0, .double x2] NoPre (some (.double r)) := by
  refine MP.start (by decide +kernel) (Nat.le_of_ble_eq_true rfl) ?_
  intro p e s m below meth c ls hC hS hp hl
  obtain ⟨hx, hb, hr, hlk, hml, hown, hts, hnm⟩ := id hC
  have hl : lv_has ls 15 [(0, .double x0), (2, .double x2)] := hl
  unfold f_J14___kernel_cos at h
  have hS0 := hS
  obtain ⟨A, eA⟩ : ∃ A : Array Value, A = [.double x0, .double x2].toArray := ⟨_, rfl⟩
  rw [← eA] at hC hts ⊢
  obtain ⟨Q, eQ⟩ : ∃ Q : State → Prop, Q = MQ below (PQ (some (.double r))) A s 0 0 (fun _ => False) := ⟨_, rfl⟩
  show W p l e R_J14___kernel_cos s m A below meth c s.heap [] 0 0 _ _
  rw [← eQ]
  refine lv_dconst0 hx hb dJ14___kernel_cos_0 ?_
  refine lv_dstore (lv' := [(12, .double 0), (0, .double x0), (2, .double x2)]) hx hb dJ14___kernel_cos_1 hl (by decide) rfl (fun ls hl => ?_)
  refine lv_dload_n hx hb dJ14___kernel_cos_3 rfl (lv_at hl 1 rfl) ?_
  obtain ⟨o1, eo1, h⟩ := bind_step h
  refine r_cp (r_runSN (rest := []) (As := [.double x0]) hC 1 (m_J8___HI x0  o1 eo1) q301 q180 q49 q181 hd_J8___HI rfl ⟨Nat.le_of_ble_eq_true rfl, Nat.le_of_ble_eq_true rfl⟩ hS trivial hl.1 rfl (Nat.le_of_ble_eq_true rfl) dJ14___kernel_cos_4 ⟨Nat.le_of_ble_eq_true rfl, Nat.le_of_ble_eq_true rfl⟩) ?_
  refine lv_ldc hx hb (v := 2147483647) hown (hts _ q302) dJ14___kernel_cos_7 ?_
  obtain ⟨v2, ev2, h⟩ := lti_step h
  refine r_iand hx hb ev2 dJ14___kernel_cos_9 ?_
  refine lv_istore (lv' := [(14, .int v2), (12, .double 0), (0, .double x0), (2, .double x2)]) hx hb dJ14___kernel_cos_10 hl (by decide) rfl (fun ls hl => ?_)
  refine lv_iload hx hb dJ14___kernel_cos_12 (lv_at hl 0 rfl) ?_
  refine lv_ldc hx hb (v := 1044381696) hown (hts _ q303) dJ14___kernel_cos_14 ?_
  obtain ⟨K3, eK3, h⟩ := lt_step h
  have HK3 : ∀  (h : K3 () = some r)  (ls : Array Slot) (hl : lv_has ls 15 [(0, .double x0), (2, .double x2), (14, .int v2)]), W p l e R_J14___kernel_cos s m A below meth c s.heap [] 0 0 Q (F0 m 26 ls []) := by
    intro h ls hl
    subst eK3
    refine lv_dload_n hx hb dJ14___kernel_cos_26 rfl (lv_at hl 0 rfl) ?_
    refine lv_dload_n hx hb dJ14___kernel_cos_27 rfl (lv_at hl 0 rfl) ?_
    obtain ⟨v4, ev4, nv4, h⟩ := ck_step h
    refine r_dmul hx hb ev4 nv4 dJ14___kernel_cos_28 ?_
    refine lv_dstore (lv' := [(8, .double v4), (0, .double x0), (2, .double x2), (14, .int v2)]) hx hb dJ14___kernel_cos_29 hl (by decide) rfl (fun ls hl => ?_)
    refine lv_dload hx hb dJ14___kernel_cos_31 (lv_at hl 0 rfl) ?_
    refine lv_ldc2d hx hb (v := 4586165620538955084) hown (hts _ q304) dJ14___kernel_cos_33 ?_
    refine lv_dload hx hb dJ14___kernel_cos_36 (lv_at hl 0 rfl) ?_
    refine lv_ldc2d hx hb (v := 13787419979223748983) hown (hts _ q305) dJ14___kernel_cos_38 ?_
    refine lv_dload hx hb dJ14___kernel_cos_41 (lv_at hl 0 rfl) ?_
    refine lv_ldc2d hx hb (v := 4537941361668330896) hown (hts _ q306) dJ14___kernel_cos_43 ?_
    refine lv_dload hx hb dJ14___kernel_cos_46 (lv_at hl 0 rfl) ?_
    refine lv_ldc2d hx hb (v := 13732177093731308205) hown (hts _ q307) dJ14___kernel_cos_48 ?_
    refine lv_dload hx hb dJ14___kernel_cos_51 (lv_at hl 0 rfl) ?_
    refine lv_ldc2d hx hb (v := 4477121870137962948) hown (hts _ q308) dJ14___kernel_cos_53 ?_
    refine lv_dload hx hb dJ14___kernel_cos_56 (lv_at hl 0 rfl) ?_
    refine lv_ldc2d hx hb (v := 13666448951086692564) hown (hts _ q309) dJ14___kernel_cos_58 ?_
    obtain ⟨v5, ev5, nv5, h⟩ := ck_step h
    refine r_dmul hx hb ev5 nv5 dJ14___kernel_cos_61 ?_
    obtain ⟨v6, ev6, nv6, h⟩ := ck_step h
    refine r_dadd hx hb ev6 nv6 dJ14___kernel_cos_62 ?_
    obtain ⟨v7, ev7, nv7, h⟩ := ck_step h
    refine r_dmul hx hb ev7 nv7 dJ14___kernel_cos_63 ?_
    obtain ⟨v8, ev8, nv8, h⟩ := ck_step h
    refine r_dadd hx hb ev8 nv8 dJ14___kernel_cos_64 ?_
    obtain ⟨v9, ev9, nv9, h⟩ := ck_step h
    refine r_dmul hx hb ev9 nv9 dJ14___kernel_cos_65 ?_
    obtain ⟨v10, ev10, nv10, h⟩ := ck_step h
    refine r_dadd hx hb ev10 nv10 dJ14___kernel_cos_66 ?_
    obtain ⟨v11, ev11, nv11, h⟩ := ck_step h
    refine r_dmul hx hb ev11 nv11 dJ14___kernel_cos_67 ?_
    obtain ⟨v12, ev12, nv12, h⟩ := ck_step h
    refine r_dadd hx hb ev12 nv12 dJ14___kernel_cos_68 ?_
    obtain ⟨v13, ev13, nv13, h⟩ := ck_step h
    refine r_dmul hx hb ev13 nv13 dJ14___kernel_cos_69 ?_
    obtain ⟨v14, ev14, nv14, h⟩ := ck_step h
    refine r_dadd hx hb ev14 nv14 dJ14___kernel_cos_70 ?_
    obtain ⟨v15, ev15, nv15, h⟩ := ck_step h
    refine r_dmul hx hb ev15 nv15 dJ14___kernel_cos_71 ?_
    refine lv_dstore (lv' := [(10, .double v15), (8, .double v4), (0, .double x0), (2, .double x2), (14, .int v2)]) hx hb dJ14___kernel_cos_72 hl (by decide) rfl (fun ls hl => ?_)
    refine lv_iload hx hb dJ14___kernel_cos_74 (lv_at hl 4 rfl) ?_
    refine lv_ldc hx hb (v := 1070805811) hown (hts _ q310) dJ14___kernel_cos_76 ?_
    refine lv_icmp_ge (tgt := 100) hx hb dJ14___kernel_cos_78 (by decide) (fun c16 => ?_) (fun c16 => ?_)
    · have h := it_pos h c16
      refine lv_iload hx hb dJ14___kernel_cos_100 (lv_at hl 4 rfl) ?_
      refine lv_ldc hx hb (v := 1072234496) hown (hts _ q312) dJ14___kernel_cos_102 ?_
      obtain ⟨K18, eK18, h⟩ := lt_step h
      have HK18 : ∀ (v17 : UInt64) (h : K18 v17 = some r)  (ls : Array Slot) (hl : lv_has ls 15 [(0, .double x0), (2, .double x2), (8, .double v4), (10, .double v15), (12, .double v17)]), W p l e R_J14___kernel_cos s m A below meth c s.heap [] 0 0 Q (F0 m 126 ls []) := by
        intro v17 h ls hl
        subst eK18
        refine lv_ldc2d hx hb (v := 4602678819172646912) hown (hts _ q311) dJ14___kernel_cos_126 ?_
        refine lv_dload hx hb dJ14___kernel_cos_129 (lv_at hl 2 rfl) ?_
        obtain ⟨v19, ev19, nv19, h⟩ := ck_step h
        refine r_dmul hx hb ev19 nv19 dJ14___kernel_cos_131 ?_
        refine lv_dload hx hb dJ14___kernel_cos_132 (lv_at hl 4 rfl) ?_
        obtain ⟨v20, ev20, nv20, h⟩ := ck_step h
        refine r_dsub hx hb ev20 nv20 dJ14___kernel_cos_134 ?_
        refine lv_dstore (lv' := [(6, .double v20), (0, .double x0), (2, .double x2), (8, .double v4), (10, .double v15), (12, .double v17)]) hx hb dJ14___kernel_cos_135 hl (by decide) rfl (fun ls hl => ?_)
        refine lv_dconst1 hx hb dJ14___kernel_cos_137 ?_
        refine lv_dload hx hb dJ14___kernel_cos_138 (lv_at hl 5 rfl) ?_
        obtain ⟨v21, ev21, nv21, h⟩ := ck_step h
        refine r_dsub hx hb ev21 nv21 dJ14___kernel_cos_140 ?_
        refine lv_dstore (lv' := [(4, .double v21), (6, .double v20), (0, .double x0), (2, .double x2), (8, .double v4), (10, .double v15), (12, .double v17)]) hx hb dJ14___kernel_cos_141 hl (by decide) rfl (fun ls hl => ?_)
        refine lv_dload hx hb dJ14___kernel_cos_143 (lv_at hl 0 rfl) ?_
        refine lv_dload hx hb dJ14___kernel_cos_145 (lv_at hl 1 rfl) ?_
        refine lv_dload hx hb dJ14___kernel_cos_147 (lv_at hl 4 rfl) ?_
        refine lv_dload hx hb dJ14___kernel_cos_149 (lv_at hl 5 rfl) ?_
        obtain ⟨v22, ev22, nv22, h⟩ := ck_step h
        refine r_dmul hx hb ev22 nv22 dJ14___kernel_cos_151 ?_
        refine lv_dload_n hx hb dJ14___kernel_cos_152 rfl (lv_at hl 2 rfl) ?_
        refine lv_dload_n hx hb dJ14___kernel_cos_153 rfl (lv_at hl 3 rfl) ?_
        obtain ⟨v23, ev23, nv23, h⟩ := ck_step h
        refine r_dmul hx hb ev23 nv23 dJ14___kernel_cos_154 ?_
        obtain ⟨v24, ev24, nv24, h⟩ := ck_step h
        refine r_dsub hx hb ev24 nv24 dJ14___kernel_cos_155 ?_
        obtain ⟨v25, ev25, nv25, h⟩ := ck_step h
        refine r_dsub hx hb ev25 nv25 dJ14___kernel_cos_156 ?_
        obtain ⟨v26, ev26, nv26, h⟩ := ck_step h
        refine r_dsub hx hb ev26 nv26 dJ14___kernel_cos_157 ?_
        obtain rfl := Option.some.inj h
        rw [eQ]
        exact p_dret hx hb hr hlk dJ14___kernel_cos_158 rfl
      clear eK18
      refine lv_icmp_le (tgt := 115) hx hb dJ14___kernel_cos_104 (by decide) (fun c27 => ?_) (fun c27 => ?_)
      · have h := it_pos h c27
        refine lv_iload hx hb dJ14___kernel_cos_115 (lv_at hl 4 rfl) ?_
        refine lv_ldc hx hb (v := 2097152) hown (hts _ q314) dJ14___kernel_cos_117 ?_
        obtain ⟨v28, ev28, h⟩ := lti_step h
        refine r_isub hx hb ev28 dJ14___kernel_cos_119 ?_
        refine lv_iconst (v := 0) hx hb dJ14___kernel_cos_120 (by decide) ?_
        obtain ⟨o29, eo29, h⟩ := bind_step h
        refine r_cp (r_runSN (rest := []) (As := [.int v28, .int 0]) hC 2 (m_J8___HI_LO v28 0  o29 eo29) q315 q316 q49 q317 hd_J8___HI_LO rfl ⟨Nat.le_of_ble_eq_true rfl, Nat.le_of_ble_eq_true rfl⟩ hS trivial hl.1 rfl (Nat.le_of_ble_eq_true rfl) dJ14___kernel_cos_121 ⟨Nat.le_of_ble_eq_true rfl, Nat.le_of_ble_eq_true rfl⟩) ?_
        refine lv_dstore (lv' := [(12, .double o29), (10, .double v15), (8, .double v4), (0, .double x0), (2, .double x2), (14, .int v2)]) hx hb dJ14___kernel_cos_124 hl (by decide) rfl (fun ls hl => ?_)
        exact HK18 o29 h  ls (lv_sub hl [3, 4, 2, 1, 0] rfl)
      · have h := it_neg h c27
        refine lv_ldc2d hx hb (v := 4598738169498697728) hown (hts _ q313) dJ14___kernel_cos_107 ?_
        refine lv_dstore (lv' := [(12, .double 4598738169498697728), (10, .double v15), (8, .double v4), (0, .double x0), (2, .double x2), (14, .int v2)]) hx hb dJ14___kernel_cos_110 hl (by decide) rfl (fun ls hl => ?_)
        refine lv_goto (tgt := 126) hx hb dJ14___kernel_cos_112 (by decide) ?_
        exact HK18 4598738169498697728 h  ls (lv_sub hl [3, 4, 2, 1, 0] rfl)
    · have h := it_neg h c16
      refine lv_dconst1 hx hb dJ14___kernel_cos_81 ?_
      refine lv_ldc2d hx hb (v := 4602678819172646912) hown (hts _ q311) dJ14___kernel_cos_82 ?_
      refine lv_dload hx hb dJ14___kernel_cos_85 (lv_at hl 1 rfl) ?_
      obtain ⟨v30, ev30, nv30, h⟩ := ck_step h
      refine r_dmul hx hb ev30 nv30 dJ14___kernel_cos_87 ?_
      refine lv_dload hx hb dJ14___kernel_cos_88 (lv_at hl 1 rfl) ?_
      refine lv_dload hx hb dJ14___kernel_cos_90 (lv_at hl 0 rfl) ?_
      obtain ⟨v31, ev31, nv31, h⟩ := ck_step h
      refine r_dmul hx hb ev31 nv31 dJ14___kernel_cos_92 ?_
      refine lv_dload_n hx hb dJ14___kernel_cos_93 rfl (lv_at hl 2 rfl) ?_
      refine lv_dload_n hx hb dJ14___kernel_cos_94 rfl (lv_at hl 3 rfl) ?_
      obtain ⟨v32, ev32, nv32, h⟩ := ck_step h
      refine r_dmul hx hb ev32 nv32 dJ14___kernel_cos_95 ?_
      obtain ⟨v33, ev33, nv33, h⟩ := ck_step h
      refine r_dsub hx hb ev33 nv33 dJ14___kernel_cos_96 ?_
      obtain ⟨v34, ev34, nv34, h⟩ := ck_step h
      refine r_dsub hx hb ev34 nv34 dJ14___kernel_cos_97 ?_
      obtain ⟨v35, ev35, nv35, h⟩ := ck_step h
      refine r_dsub hx hb ev35 nv35 dJ14___kernel_cos_98 ?_
      obtain rfl := Option.some.inj h
      rw [eQ]
      exact p_dret hx hb hr hlk dJ14___kernel_cos_99 rfl
  clear eK3
  refine lv_icmp_ge (tgt := 26) hx hb dJ14___kernel_cos_16 (by decide) (fun c36 => ?_) (fun c36 => ?_)
  · have h := it_pos h c36
    exact HK3  h  ls (lv_sub hl [2, 3, 0] rfl)
  · have h := it_neg h c36
    refine lv_dload_n hx hb dJ14___kernel_cos_19 rfl (lv_at hl 2 rfl) ?_
    obtain ⟨v37, ev37, h⟩ := lti_step h
    refine r_d2i hx hb ev37 dJ14___kernel_cos_20 ?_
    refine lv_if_ne (tgt := 26) hx hb dJ14___kernel_cos_21 (by decide) (fun c38 => ?_) (fun c38 => ?_)
    · have h := it_neg h c38
      exact HK3  h  ls (lv_sub hl [2, 3, 0] rfl)
    · have h := it_pos h c38
      refine lv_dconst1 hx hb dJ14___kernel_cos_24 ?_
      obtain rfl := Option.some.inj h
      rw [eQ]
      exact p_dret hx hb hr hlk dJ14___kernel_cos_25 rfl

abbrev R_J15___kernel_tan : Room := { frames := 2, cells := 0, slots := 0, locals := 47 }
noncomputable def f_J15___kernel_tan (x0 : UInt64) (x2 : UInt64) (x4 : Int32) : Option (UInt64) :=
  Option.bind (f_J8___HI x0) fun o1 =>
  lti (o1 &&& 2147483647) fun v2 =>
  lt (fun (_u : Unit) =>
  lt (fun (v4 : UInt64) (v5 : UInt64) =>
  ck (dmulF v4 v4) fun v7 =>
  ck (dmulF v7 v7) fun v8 =>
  ltd (tb_T 1) fun v9 =>
  ltd (tb_T 3) fun v10 =>
  ltd (tb_T 5) fun v11 =>
  ltd (tb_T 7) fun v12 =>
  ltd (tb_T 9) fun v13 =>
  ltd (tb_T 11) fun v14 =>
  ck (dmulF v8 v14) fun v15 =>
  ck (daddF v13 v15) fun v16 =>
  ck (dmulF v8 v16) fun v17 =>
  ck (daddF v12 v17) fun v18 =>
  ck (dmulF v8 v18) fun v19 =>
  ck (daddF v11 v19) fun v20 =>
  ck (dmulF v8 v20) fun v21 =>
  ck (daddF v10 v21) fun v22 =>
  ck (dmulF v8 v22) fun v23 =>
  ck (daddF v9 v23) fun v24 =>
  ltd (tb_T 2) fun v25 =>
  ltd (tb_T 4) fun v26 =>
  ltd (tb_T 6) fun v27 =>
  ltd (tb_T 8) fun v28 =>
  ltd (tb_T 10) fun v29 =>
  ltd (tb_T 12) fun v30 =>
  ck (dmulF v8 v30) fun v31 =>
  ck (daddF v29 v31) fun v32 =>
  ck (dmulF v8 v32) fun v33 =>
  ck (daddF v28 v33) fun v34 =>
  ck (dmulF v8 v34) fun v35 =>
  ck (daddF v27 v35) fun v36 =>
  ck (dmulF v8 v36) fun v37 =>
  ck (daddF v26 v37) fun v38 =>
  ck (dmulF v8 v38) fun v39 =>
  ck (daddF v25 v39) fun v40 =>
  ck (dmulF v7 v40) fun v41 =>
  ck (dmulF v7 v4) fun v42 =>
  ck (daddF v24 v41) fun v43 =>
  ck (dmulF v42 v43) fun v44 =>
  ck (daddF v44 v5) fun v45 =>
  ck (dmulF v7 v45) fun v46 =>
  ck (daddF v5 v46) fun v47 =>
  ltd (tb_T 0) fun v48 =>
  ck (dmulF v48 v42) fun v49 =>
  ck (daddF v47 v49) fun v50 =>
  ck (daddF v4 v50) fun v51 =>
  (if v2 < 1072010280 then
    (if x4 = 1 then
      some (v51)
    else
      Option.bind (f_J8___LO_2 v51 0) fun o54 =>
      ck (dsubF o54 v4) fun v55 =>
      ck (dsubF v50 v55) fun v56 =>
      ck (ddivF 13830554455654793216 v51) fun v57 =>
      Option.bind (f_J8___LO_2 v57 0) fun o58 =>
      ck (dmulF o58 o54) fun v59 =>
      ck (daddF 4607182418800017408 v59) fun v60 =>
      ck (dmulF o58 v56) fun v61 =>
      ck (daddF v60 v61) fun v62 =>
      ck (dmulF v57 v62) fun v63 =>
      ck (daddF o58 v63) fun v64 =>
      some (v64)
    )
  else
    ltd (i2dF x4) fun v65 =>
    lti (o1 >>> (30 &&& 31)) fun v66 =>
    lti (v66 &&& 2) fun v67 =>
    lti (1 - v67) fun v68 =>
    ltd (i2dF v68) fun v69 =>
    ck (dmulF v51 v51) fun v70 =>
    ck (daddF v51 v65) fun v71 =>
    ck (ddivF v70 v71) fun v72 =>
    ck (dsubF v72 v50) fun v73 =>
    ck (dsubF v4 v73) fun v74 =>
    ck (dmulF 4611686018427387904 v74) fun v75 =>
    ck (dsubF v65 v75) fun v76 =>
    ck (dmulF v69 v76) fun v77 =>
    some (v77)
  )
  ) fun K6 =>
  (if v2 < 1072010280 then
    K6 x0 x2
  else
    lt (fun (v79 : UInt64) (v80 : UInt64) =>
    ck (dsubF 4605249457297304856 v79) fun v82 =>
    ck (dsubF 4359948597267291143 v80) fun v83 =>
    ck (daddF v82 v83) fun v84 =>
    K6 v84 0
    ) fun K81 =>
    (if 0 ≤ o1 then
      K81 x0 x2
    else
      ltd (FP.dneg x0) fun v86 =>
      ltd (FP.dneg x2) fun v87 =>
      K81 v86 v87
    )
  )
  ) fun K3 =>
  (if 1043333120 ≤ v2 then
    K3 ()
  else
    lti (d2iF x0) fun v89 =>
    (if v89 = 0 then
      Option.bind (f_J8___LO x0) fun o91 =>
      lti (v2 ||| o91) fun v92 =>
      lti (x4 + 1) fun v93 =>
      lti (v92 ||| v93) fun v94 =>
      (if v94 = 0 then
        ck (x0 &&& 9223372036854775807) fun v109 =>
        ck (ddivF 4607182418800017408 v109) fun v110 =>
        some (v110)
      else
        (if x4 = 1 then
          some (x0)
        else
          ck (daddF x0 x2) fun v97 =>
          Option.bind (f_J8___LO_2 v97 0) fun o98 =>
          ck (dsubF o98 x0) fun v99 =>
          ck (dsubF x2 v99) fun v100 =>
          ck (ddivF 13830554455654793216 v97) fun v101 =>
          Option.bind (f_J8___LO_2 v101 0) fun o102 =>
          ck (dmulF o102 o98) fun v103 =>
          ck (daddF 4607182418800017408 v103) fun v104 =>
          ck (dmulF o102 v100) fun v105 =>
          ck (daddF v104 v105) fun v106 =>
          ck (dmulF v101 v106) fun v107 =>
          ck (daddF o102 v107) fun v108 =>
          some (v108)
        )
      )
    else
      K3 ()
    )
  )
theorem hd_J15___kernel_tan : Hd yJ15___kernel_tan 3 := by unfold Hd; decide +kernel
set_option maxHeartbeats 4000000 in
set_option maxRecDepth 100000 in
theorem m_J15___kernel_tan {l : Launch} {D : DD} (x0 : UInt64) (x2 : UInt64) (x4 : Int32)  (r : UInt64) (h : f_J15___kernel_tan x0 x2 x4 = some r) : MP l D yJ15___kernel_tan cJ15___kernel_tan 21 (some .double) 2 47 [.double x0, .double x2, .int x4] NoPre (some (.double r)) := by
  refine MP.start (by decide +kernel) (Nat.le_of_ble_eq_true rfl) ?_
  intro p e s m below meth c ls hC hS hp hl
  obtain ⟨hx, hb, hr, hlk, hml, hown, hts, hnm⟩ := id hC
  have hl : lv_has ls 21 [(0, .double x0), (2, .double x2), (4, .int x4)] := hl
  unfold f_J15___kernel_tan at h
  have hS0 := hS
  obtain ⟨A, eA⟩ : ∃ A : Array Value, A = [.double x0, .double x2, .int x4].toArray := ⟨_, rfl⟩
  rw [← eA] at hC hts ⊢
  obtain ⟨Q, eQ⟩ : ∃ Q : State → Prop, Q = MQ below (PQ (some (.double r))) A s 0 0 (fun _ => False) := ⟨_, rfl⟩
  show W p l e R_J15___kernel_tan s m A below meth c s.heap [] 0 0 _ _
  rw [← eQ]
  refine lv_dload_n hx hb dJ15___kernel_tan_0 rfl (lv_at hl 0 rfl) ?_
  obtain ⟨o1, eo1, h⟩ := bind_step h
  refine r_cp (r_runSN (rest := []) (As := [.double x0]) hC 1 (m_J8___HI x0  o1 eo1) q335 q180 q49 q181 hd_J8___HI rfl ⟨Nat.le_of_ble_eq_true rfl, Nat.le_of_ble_eq_true rfl⟩ hS trivial hl.1 rfl (Nat.le_of_ble_eq_true rfl) dJ15___kernel_tan_1 ⟨Nat.le_of_ble_eq_true rfl, Nat.le_of_ble_eq_true rfl⟩) ?_
  refine lv_istore (lv' := [(16, .int o1), (0, .double x0), (2, .double x2), (4, .int x4)]) hx hb dJ15___kernel_tan_4 hl (by decide) rfl (fun ls hl => ?_)
  refine lv_iload hx hb dJ15___kernel_tan_6 (lv_at hl 0 rfl) ?_
  refine lv_ldc hx hb (v := 2147483647) hown (hts _ q336) dJ15___kernel_tan_8 ?_
  obtain ⟨v2, ev2, h⟩ := lti_step h
  refine r_iand hx hb ev2 dJ15___kernel_tan_10 ?_
  refine lv_istore (lv' := [(15, .int v2), (16, .int o1), (0, .double x0), (2, .double x2), (4, .int x4)]) hx hb dJ15___kernel_tan_11 hl (by decide) rfl (fun ls hl => ?_)
  refine lv_iload hx hb dJ15___kernel_tan_13 (lv_at hl 0 rfl) ?_
  refine lv_ldc hx hb (v := 1043333120) hown (hts _ q341) dJ15___kernel_tan_15 ?_
  obtain ⟨K3, eK3, h⟩ := lt_step h
  have HK3 : ∀  (h : K3 () = some r)  (ls : Array Slot) (hl : lv_has ls 21 [(0, .double x0), (2, .double x2), (4, .int x4), (15, .int v2), (16, .int o1)]), W p l e R_J15___kernel_tan s m A below meth c s.heap [] 0 0 Q (F0 m 122 ls []) := by
    intro h ls hl
    subst eK3
    refine lv_iload hx hb dJ15___kernel_tan_122 (lv_at hl 3 rfl) ?_
    refine lv_ldc hx hb (v := 1072010280) hown (hts _ q346) dJ15___kernel_tan_124 ?_
    obtain ⟨K6, eK6, h⟩ := lt_step h
    have HK6 : ∀ (v4 : UInt64) (v5 : UInt64) (h : K6 v4 v5 = some r)  (ls : Array Slot) (hl : lv_has ls 21 [(0, .double v4), (2, .double v5), (4, .int x4), (15, .int v2), (16, .int o1)]), W p l e R_J15___kernel_tan s m A below meth c s.heap [] 0 0 Q (F0 m 162 ls []) := by
      intro v4 v5 h ls hl
      subst eK6
      refine lv_dload_n hx hb dJ15___kernel_tan_162 rfl (lv_at hl 0 rfl) ?_
      refine lv_dload_n hx hb dJ15___kernel_tan_163 rfl (lv_at hl 0 rfl) ?_
      obtain ⟨v7, ev7, nv7, h⟩ := ck_step h
      refine r_dmul hx hb ev7 nv7 dJ15___kernel_tan_164 ?_
      refine lv_dstore (lv' := [(5, .double v7), (0, .double v4), (2, .double v5), (4, .int x4), (15, .int v2), (16, .int o1)]) hx hb dJ15___kernel_tan_165 hl (by decide) rfl (fun ls hl => ?_)
      refine lv_dload hx hb dJ15___kernel_tan_167 (lv_at hl 0 rfl) ?_
      refine lv_dload hx hb dJ15___kernel_tan_169 (lv_at hl 0 rfl) ?_
      obtain ⟨v8, ev8, nv8, h⟩ := ck_step h
      refine r_dmul hx hb ev8 nv8 dJ15___kernel_tan_171 ?_
      refine lv_dstore (lv' := [(11, .double v8), (5, .double v7), (0, .double v4), (2, .double v5), (4, .int x4), (15, .int v2), (16, .int o1)]) hx hb dJ15___kernel_tan_172 hl (by decide) rfl (fun ls hl => ?_)
      refine r_gets hx hb hts hown hS 7 rfl q349 dJ15___kernel_tan_174 ?_
      refine lv_iconst (v := 1) hx hb dJ15___kernel_tan_177 (by decide) ?_
      refine r_dald hx hb hS (hS.1.RA hS.1.1.2.2.2.1.2.2.2.2.2.2.2.1) 1 ⟨rfl, by decide, by decide⟩ dJ15___kernel_tan_178 ?_
      obtain ⟨v9, ev9, h⟩ := ltd_step h
      refine r_nmD ev9 ?_
      refine lv_dload hx hb dJ15___kernel_tan_179 (lv_at hl 0 rfl) ?_
      refine r_gets hx hb hts hown hS 7 rfl q349 dJ15___kernel_tan_181 ?_
      refine lv_iconst (v := 3) hx hb dJ15___kernel_tan_184 (by decide) ?_
      refine r_dald hx hb hS (hS.1.RA hS.1.1.2.2.2.1.2.2.2.2.2.2.2.1) 3 ⟨rfl, by decide, by decide⟩ dJ15___kernel_tan_185 ?_
      obtain ⟨v10, ev10, h⟩ := ltd_step h
      refine r_nmD ev10 ?_
      refine lv_dload hx hb dJ15___kernel_tan_186 (lv_at hl 0 rfl) ?_
      refine r_gets hx hb hts hown hS 7 rfl q349 dJ15___kernel_tan_188 ?_
      refine lv_iconst (v := 5) hx hb dJ15___kernel_tan_191 (by decide) ?_
      refine r_dald hx hb hS (hS.1.RA hS.1.1.2.2.2.1.2.2.2.2.2.2.2.1) 5 ⟨rfl, by decide, by decide⟩ dJ15___kernel_tan_192 ?_
      obtain ⟨v11, ev11, h⟩ := ltd_step h
      refine r_nmD ev11 ?_
      refine lv_dload hx hb dJ15___kernel_tan_193 (lv_at hl 0 rfl) ?_
      refine r_gets hx hb hts hown hS 7 rfl q349 dJ15___kernel_tan_195 ?_
      refine lv_bipush (v := 7) hx hb dJ15___kernel_tan_198 (by decide) ?_
      refine r_dald hx hb hS (hS.1.RA hS.1.1.2.2.2.1.2.2.2.2.2.2.2.1) 7 ⟨rfl, by decide, by decide⟩ dJ15___kernel_tan_200 ?_
      obtain ⟨v12, ev12, h⟩ := ltd_step h
      refine r_nmD ev12 ?_
      refine lv_dload hx hb dJ15___kernel_tan_201 (lv_at hl 0 rfl) ?_
      refine r_gets hx hb hts hown hS 7 rfl q349 dJ15___kernel_tan_203 ?_
      refine lv_bipush (v := 9) hx hb dJ15___kernel_tan_206 (by decide) ?_
      refine r_dald hx hb hS (hS.1.RA hS.1.1.2.2.2.1.2.2.2.2.2.2.2.1) 9 ⟨rfl, by decide, by decide⟩ dJ15___kernel_tan_208 ?_
      obtain ⟨v13, ev13, h⟩ := ltd_step h
      refine r_nmD ev13 ?_
      refine lv_dload hx hb dJ15___kernel_tan_209 (lv_at hl 0 rfl) ?_
      refine r_gets hx hb hts hown hS 7 rfl q349 dJ15___kernel_tan_211 ?_
      refine lv_bipush (v := 11) hx hb dJ15___kernel_tan_214 (by decide) ?_
      refine r_dald hx hb hS (hS.1.RA hS.1.1.2.2.2.1.2.2.2.2.2.2.2.1) 11 ⟨rfl, by decide, by decide⟩ dJ15___kernel_tan_216 ?_
      obtain ⟨v14, ev14, h⟩ := ltd_step h
      refine r_nmD ev14 ?_
      obtain ⟨v15, ev15, nv15, h⟩ := ck_step h
      refine r_dmul hx hb ev15 nv15 dJ15___kernel_tan_217 ?_
      obtain ⟨v16, ev16, nv16, h⟩ := ck_step h
      refine r_dadd hx hb ev16 nv16 dJ15___kernel_tan_218 ?_
      obtain ⟨v17, ev17, nv17, h⟩ := ck_step h
      refine r_dmul hx hb ev17 nv17 dJ15___kernel_tan_219 ?_
      obtain ⟨v18, ev18, nv18, h⟩ := ck_step h
      refine r_dadd hx hb ev18 nv18 dJ15___kernel_tan_220 ?_
      obtain ⟨v19, ev19, nv19, h⟩ := ck_step h
      refine r_dmul hx hb ev19 nv19 dJ15___kernel_tan_221 ?_
      obtain ⟨v20, ev20, nv20, h⟩ := ck_step h
      refine r_dadd hx hb ev20 nv20 dJ15___kernel_tan_222 ?_
      obtain ⟨v21, ev21, nv21, h⟩ := ck_step h
      refine r_dmul hx hb ev21 nv21 dJ15___kernel_tan_223 ?_
      obtain ⟨v22, ev22, nv22, h⟩ := ck_step h
      refine r_dadd hx hb ev22 nv22 dJ15___kernel_tan_224 ?_
      obtain ⟨v23, ev23, nv23, h⟩ := ck_step h
      refine r_dmul hx hb ev23 nv23 dJ15___kernel_tan_225 ?_
      obtain ⟨v24, ev24, nv24, h⟩ := ck_step h
      refine r_dadd hx hb ev24 nv24 dJ15___kernel_tan_226 ?_
      refine lv_dstore (lv' := [(7, .double v24), (11, .double v8), (5, .double v7), (0, .double v4), (2, .double v5), (4, .int x4), (15, .int v2), (16, .int o1)]) hx hb dJ15___kernel_tan_227 hl (by decide) rfl (fun ls hl => ?_)
      refine lv_dload hx hb dJ15___kernel_tan_229 (lv_at hl 2 rfl) ?_
      refine r_gets hx hb hts hown hS 7 rfl q349 dJ15___kernel_tan_231 ?_
      refine lv_iconst (v := 2) hx hb dJ15___kernel_tan_234 (by decide) ?_
      refine r_dald hx hb hS (hS.1.RA hS.1.1.2.2.2.1.2.2.2.2.2.2.2.1) 2 ⟨rfl, by decide, by decide⟩ dJ15___kernel_tan_235 ?_
      obtain ⟨v25, ev25, h⟩ := ltd_step h
      refine r_nmD ev25 ?_
      refine lv_dload hx hb dJ15___kernel_tan_236 (lv_at hl 1 rfl) ?_
      refine r_gets hx hb hts hown hS 7 rfl q349 dJ15___kernel_tan_238 ?_
      refine lv_iconst (v := 4) hx hb dJ15___kernel_tan_241 (by decide) ?_
      refine r_dald hx hb hS (hS.1.RA hS.1.1.2.2.2.1.2.2.2.2.2.2.2.1) 4 ⟨rfl, by decide, by decide⟩ dJ15___kernel_tan_242 ?_
      obtain ⟨v26, ev26, h⟩ := ltd_step h
      refine r_nmD ev26 ?_
      refine lv_dload hx hb dJ15___kernel_tan_243 (lv_at hl 1 rfl) ?_
      refine r_gets hx hb hts hown hS 7 rfl q349 dJ15___kernel_tan_245 ?_
      refine lv_bipush (v := 6) hx hb dJ15___kernel_tan_248 (by decide) ?_
      refine r_dald hx hb hS (hS.1.RA hS.1.1.2.2.2.1.2.2.2.2.2.2.2.1) 6 ⟨rfl, by decide, by decide⟩ dJ15___kernel_tan_250 ?_
      obtain ⟨v27, ev27, h⟩ := ltd_step h
      refine r_nmD ev27 ?_
      refine lv_dload hx hb dJ15___kernel_tan_251 (lv_at hl 1 rfl) ?_
      refine r_gets hx hb hts hown hS 7 rfl q349 dJ15___kernel_tan_253 ?_
      refine lv_bipush (v := 8) hx hb dJ15___kernel_tan_256 (by decide) ?_
      refine r_dald hx hb hS (hS.1.RA hS.1.1.2.2.2.1.2.2.2.2.2.2.2.1) 8 ⟨rfl, by decide, by decide⟩ dJ15___kernel_tan_258 ?_
      obtain ⟨v28, ev28, h⟩ := ltd_step h
      refine r_nmD ev28 ?_
      refine lv_dload hx hb dJ15___kernel_tan_259 (lv_at hl 1 rfl) ?_
      refine r_gets hx hb hts hown hS 7 rfl q349 dJ15___kernel_tan_261 ?_
      refine lv_bipush (v := 10) hx hb dJ15___kernel_tan_264 (by decide) ?_
      refine r_dald hx hb hS (hS.1.RA hS.1.1.2.2.2.1.2.2.2.2.2.2.2.1) 10 ⟨rfl, by decide, by decide⟩ dJ15___kernel_tan_266 ?_
      obtain ⟨v29, ev29, h⟩ := ltd_step h
      refine r_nmD ev29 ?_
      refine lv_dload hx hb dJ15___kernel_tan_267 (lv_at hl 1 rfl) ?_
      refine r_gets hx hb hts hown hS 7 rfl q349 dJ15___kernel_tan_269 ?_
      refine lv_bipush (v := 12) hx hb dJ15___kernel_tan_272 (by decide) ?_
      refine r_dald hx hb hS (hS.1.RA hS.1.1.2.2.2.1.2.2.2.2.2.2.2.1) 12 ⟨rfl, by decide, by decide⟩ dJ15___kernel_tan_274 ?_
      obtain ⟨v30, ev30, h⟩ := ltd_step h
      refine r_nmD ev30 ?_
      obtain ⟨v31, ev31, nv31, h⟩ := ck_step h
      refine r_dmul hx hb ev31 nv31 dJ15___kernel_tan_275 ?_
      obtain ⟨v32, ev32, nv32, h⟩ := ck_step h
      refine r_dadd hx hb ev32 nv32 dJ15___kernel_tan_276 ?_
      obtain ⟨v33, ev33, nv33, h⟩ := ck_step h
      refine r_dmul hx hb ev33 nv33 dJ15___kernel_tan_277 ?_
      obtain ⟨v34, ev34, nv34, h⟩ := ck_step h
      refine r_dadd hx hb ev34 nv34 dJ15___kernel_tan_278 ?_
      obtain ⟨v35, ev35, nv35, h⟩ := ck_step h
      refine r_dmul hx hb ev35 nv35 dJ15___kernel_tan_279 ?_
      obtain ⟨v36, ev36, nv36, h⟩ := ck_step h
      refine r_dadd hx hb ev36 nv36 dJ15___kernel_tan_280 ?_
      obtain ⟨v37, ev37, nv37, h⟩ := ck_step h
      refine r_dmul hx hb ev37 nv37 dJ15___kernel_tan_281 ?_
      obtain ⟨v38, ev38, nv38, h⟩ := ck_step h
      refine r_dadd hx hb ev38 nv38 dJ15___kernel_tan_282 ?_
      obtain ⟨v39, ev39, nv39, h⟩ := ck_step h
      refine r_dmul hx hb ev39 nv39 dJ15___kernel_tan_283 ?_
      obtain ⟨v40, ev40, nv40, h⟩ := ck_step h
      refine r_dadd hx hb ev40 nv40 dJ15___kernel_tan_284 ?_
      obtain ⟨v41, ev41, nv41, h⟩ := ck_step h
      refine r_dmul hx hb ev41 nv41 dJ15___kernel_tan_285 ?_
      refine lv_dstore (lv' := [(9, .double v41), (7, .double v24), (11, .double v8), (5, .double v7), (0, .double v4), (2, .double v5), (4, .int x4), (15, .int v2), (16, .int o1)]) hx hb dJ15___kernel_tan_286 hl (by decide) rfl (fun ls hl => ?_)
      refine lv_dload hx hb dJ15___kernel_tan_288 (lv_at hl 3 rfl) ?_
      refine lv_dload_n hx hb dJ15___kernel_tan_290 rfl (lv_at hl 4 rfl) ?_
      obtain ⟨v42, ev42, nv42, h⟩ := ck_step h
      refine r_dmul hx hb ev42 nv42 dJ15___kernel_tan_291 ?_
      refine lv_dstore (lv' := [(13, .double v42), (9, .double v41), (7, .double v24), (11, .double v8), (5, .double v7), (0, .double v4), (2, .double v5), (4, .int x4), (15, .int v2), (16, .int o1)]) hx hb dJ15___kernel_tan_292 hl (by decide) rfl (fun ls hl => ?_)
      refine lv_dload_n hx hb dJ15___kernel_tan_294 rfl (lv_at hl 6 rfl) ?_
      refine lv_dload hx hb dJ15___kernel_tan_295 (lv_at hl 4 rfl) ?_
      refine lv_dload hx hb dJ15___kernel_tan_297 (lv_at hl 0 rfl) ?_
      refine lv_dload hx hb dJ15___kernel_tan_299 (lv_at hl 2 rfl) ?_
      refine lv_dload hx hb dJ15___kernel_tan_301 (lv_at hl 1 rfl) ?_
      obtain ⟨v43, ev43, nv43, h⟩ := ck_step h
      refine r_dadd hx hb ev43 nv43 dJ15___kernel_tan_303 ?_
      obtain ⟨v44, ev44, nv44, h⟩ := ck_step h
      refine r_dmul hx hb ev44 nv44 dJ15___kernel_tan_304 ?_
      refine lv_dload_n hx hb dJ15___kernel_tan_305 rfl (lv_at hl 6 rfl) ?_
      obtain ⟨v45, ev45, nv45, h⟩ := ck_step h
      refine r_dadd hx hb ev45 nv45 dJ15___kernel_tan_306 ?_
      obtain ⟨v46, ev46, nv46, h⟩ := ck_step h
      refine r_dmul hx hb ev46 nv46 dJ15___kernel_tan_307 ?_
      obtain ⟨v47, ev47, nv47, h⟩ := ck_step h
      refine r_dadd hx hb ev47 nv47 dJ15___kernel_tan_308 ?_
      refine lv_dstore (lv' := [(7, .double v47), (13, .double v42), (9, .double v41), (11, .double v8), (5, .double v7), (0, .double v4), (2, .double v5), (4, .int x4), (15, .int v2), (16, .int o1)]) hx hb dJ15___kernel_tan_309 hl (by decide) rfl (fun ls hl => ?_)
      refine lv_dload hx hb dJ15___kernel_tan_311 (lv_at hl 0 rfl) ?_
      refine r_gets hx hb hts hown hS 7 rfl q349 dJ15___kernel_tan_313 ?_
      refine lv_iconst (v := 0) hx hb dJ15___kernel_tan_316 (by decide) ?_
      refine r_dald hx hb hS (hS.1.RA hS.1.1.2.2.2.1.2.2.2.2.2.2.2.1) 0 ⟨rfl, by decide, by decide⟩ dJ15___kernel_tan_317 ?_
      obtain ⟨v48, ev48, h⟩ := ltd_step h
      refine r_nmD ev48 ?_
      refine lv_dload hx hb dJ15___kernel_tan_318 (lv_at hl 1 rfl) ?_
      obtain ⟨v49, ev49, nv49, h⟩ := ck_step h
      refine r_dmul hx hb ev49 nv49 dJ15___kernel_tan_320 ?_
      obtain ⟨v50, ev50, nv50, h⟩ := ck_step h
      refine r_dadd hx hb ev50 nv50 dJ15___kernel_tan_321 ?_
      refine lv_dstore (lv' := [(7, .double v50), (13, .double v42), (9, .double v41), (11, .double v8), (5, .double v7), (0, .double v4), (2, .double v5), (4, .int x4), (15, .int v2), (16, .int o1)]) hx hb dJ15___kernel_tan_322 hl (by decide) rfl (fun ls hl => ?_)
      refine lv_dload_n hx hb dJ15___kernel_tan_324 rfl (lv_at hl 5 rfl) ?_
      refine lv_dload hx hb dJ15___kernel_tan_325 (lv_at hl 0 rfl) ?_
      obtain ⟨v51, ev51, nv51, h⟩ := ck_step h
      refine r_dadd hx hb ev51 nv51 dJ15___kernel_tan_327 ?_
      refine lv_dstore (lv' := [(11, .double v51), (7, .double v50), (13, .double v42), (9, .double v41), (5, .double v7), (0, .double v4), (2, .double v5), (4, .int x4), (15, .int v2), (16, .int o1)]) hx hb dJ15___kernel_tan_328 hl (by decide) rfl (fun ls hl => ?_)
      refine lv_iload hx hb dJ15___kernel_tan_330 (lv_at hl 8 rfl) ?_
      refine lv_ldc hx hb (v := 1072010280) hown (hts _ q346) dJ15___kernel_tan_332 ?_
      refine lv_icmp_lt (tgt := 377) hx hb dJ15___kernel_tan_334 (by decide) (fun c52 => ?_) (fun c52 => ?_)
      · have h := it_pos h c52
        refine lv_iload hx hb dJ15___kernel_tan_377 (lv_at hl 7 rfl) ?_
        refine lv_iconst (v := 1) hx hb dJ15___kernel_tan_379 (by decide) ?_
        refine lv_icmp_ne (tgt := 386) hx hb dJ15___kernel_tan_380 (by decide) (fun c53 => ?_) (fun c53 => ?_)
        · have h := it_neg h c53
          refine lv_dload hx hb dJ15___kernel_tan_386 (lv_at hl 0 rfl) ?_
          refine lv_dstore (lv' := [(5, .double v51), (11, .double v51), (7, .double v50), (13, .double v42), (9, .double v41), (0, .double v4), (2, .double v5), (4, .int x4), (15, .int v2), (16, .int o1)]) hx hb dJ15___kernel_tan_388 hl (by decide) rfl (fun ls hl => ?_)
          refine lv_dload hx hb dJ15___kernel_tan_390 (lv_at hl 0 rfl) ?_
          refine lv_iconst (v := 0) hx hb dJ15___kernel_tan_392 (by decide) ?_
          obtain ⟨o54, eo54, h⟩ := bind_step h
          refine r_cp (r_runSN (rest := []) (As := [.double v51, .int 0]) hC 2 (m_J8___LO_2 v51 0  o54 eo54) q344 q231 q49 q232 hd_J8___LO_2 rfl ⟨Nat.le_of_ble_eq_true rfl, Nat.le_of_ble_eq_true rfl⟩ hS trivial hl.1 rfl (Nat.le_of_ble_eq_true rfl) dJ15___kernel_tan_393 ⟨Nat.le_of_ble_eq_true rfl, Nat.le_of_ble_eq_true rfl⟩) ?_
          refine lv_dstore (lv' := [(5, .double o54), (11, .double v51), (7, .double v50), (13, .double v42), (9, .double v41), (0, .double v4), (2, .double v5), (4, .int x4), (15, .int v2), (16, .int o1)]) hx hb dJ15___kernel_tan_396 hl (by decide) rfl (fun ls hl => ?_)
          refine lv_dload hx hb dJ15___kernel_tan_398 (lv_at hl 2 rfl) ?_
          refine lv_dload hx hb dJ15___kernel_tan_400 (lv_at hl 0 rfl) ?_
          refine lv_dload_n hx hb dJ15___kernel_tan_402 rfl (lv_at hl 5 rfl) ?_
          obtain ⟨v55, ev55, nv55, h⟩ := ck_step h
          refine r_dsub hx hb ev55 nv55 dJ15___kernel_tan_403 ?_
          obtain ⟨v56, ev56, nv56, h⟩ := ck_step h
          refine r_dsub hx hb ev56 nv56 dJ15___kernel_tan_404 ?_
          refine lv_dstore (lv' := [(9, .double v56), (5, .double o54), (11, .double v51), (7, .double v50), (13, .double v42), (0, .double v4), (2, .double v5), (4, .int x4), (15, .int v2), (16, .int o1)]) hx hb dJ15___kernel_tan_405 hl (by decide) rfl (fun ls hl => ?_)
          refine lv_ldc2d hx hb (v := 13830554455654793216) hown (hts _ q345) dJ15___kernel_tan_407 ?_
          refine lv_dload hx hb dJ15___kernel_tan_410 (lv_at hl 2 rfl) ?_
          obtain ⟨v57, ev57, nv57, h⟩ := ck_step h
          refine r_ddiv hx hb ev57 nv57 dJ15___kernel_tan_412 ?_
          refine lv_dup2_2 hx hb dJ15___kernel_tan_413 rfl ?_
          refine lv_dstore (lv' := [(17, .double v57), (9, .double v56), (5, .double o54), (11, .double v51), (7, .double v50), (13, .double v42), (0, .double v4), (2, .double v5), (4, .int x4), (15, .int v2), (16, .int o1)]) hx hb dJ15___kernel_tan_414 hl (by decide) rfl (fun ls hl => ?_)
          refine lv_dstore (lv' := [(19, .double v57), (17, .double v57), (9, .double v56), (5, .double o54), (11, .double v51), (7, .double v50), (13, .double v42), (0, .double v4), (2, .double v5), (4, .int x4), (15, .int v2), (16, .int o1)]) hx hb dJ15___kernel_tan_416 hl (by decide) rfl (fun ls hl => ?_)
          refine lv_dload hx hb dJ15___kernel_tan_418 (lv_at hl 0 rfl) ?_
          refine lv_iconst (v := 0) hx hb dJ15___kernel_tan_420 (by decide) ?_
          obtain ⟨o58, eo58, h⟩ := bind_step h
          refine r_cp (r_runSN (rest := []) (As := [.double v57, .int 0]) hC 2 (m_J8___LO_2 v57 0  o58 eo58) q344 q231 q49 q232 hd_J8___LO_2 rfl ⟨Nat.le_of_ble_eq_true rfl, Nat.le_of_ble_eq_true rfl⟩ hS trivial hl.1 rfl (Nat.le_of_ble_eq_true rfl) dJ15___kernel_tan_421 ⟨Nat.le_of_ble_eq_true rfl, Nat.le_of_ble_eq_true rfl⟩) ?_
          refine lv_dstore (lv' := [(19, .double o58), (17, .double v57), (9, .double v56), (5, .double o54), (11, .double v51), (7, .double v50), (13, .double v42), (0, .double v4), (2, .double v5), (4, .int x4), (15, .int v2), (16, .int o1)]) hx hb dJ15___kernel_tan_424 hl (by decide) rfl (fun ls hl => ?_)
          refine lv_dconst1 hx hb dJ15___kernel_tan_426 ?_
          refine lv_dload hx hb dJ15___kernel_tan_427 (lv_at hl 0 rfl) ?_
          refine lv_dload hx hb dJ15___kernel_tan_429 (lv_at hl 3 rfl) ?_
          obtain ⟨v59, ev59, nv59, h⟩ := ck_step h
          refine r_dmul hx hb ev59 nv59 dJ15___kernel_tan_431 ?_
          obtain ⟨v60, ev60, nv60, h⟩ := ck_step h
          refine r_dadd hx hb ev60 nv60 dJ15___kernel_tan_432 ?_
          refine lv_dstore (lv' := [(13, .double v60), (19, .double o58), (17, .double v57), (9, .double v56), (5, .double o54), (11, .double v51), (7, .double v50), (0, .double v4), (2, .double v5), (4, .int x4), (15, .int v2), (16, .int o1)]) hx hb dJ15___kernel_tan_433 hl (by decide) rfl (fun ls hl => ?_)
          refine lv_dload hx hb dJ15___kernel_tan_435 (lv_at hl 1 rfl) ?_
          refine lv_dload hx hb dJ15___kernel_tan_437 (lv_at hl 2 rfl) ?_
          refine lv_dload hx hb dJ15___kernel_tan_439 (lv_at hl 0 rfl) ?_
          refine lv_dload hx hb dJ15___kernel_tan_441 (lv_at hl 1 rfl) ?_
          refine lv_dload hx hb dJ15___kernel_tan_443 (lv_at hl 3 rfl) ?_
          obtain ⟨v61, ev61, nv61, h⟩ := ck_step h
          refine r_dmul hx hb ev61 nv61 dJ15___kernel_tan_445 ?_
          obtain ⟨v62, ev62, nv62, h⟩ := ck_step h
          refine r_dadd hx hb ev62 nv62 dJ15___kernel_tan_446 ?_
          obtain ⟨v63, ev63, nv63, h⟩ := ck_step h
          refine r_dmul hx hb ev63 nv63 dJ15___kernel_tan_447 ?_
          obtain ⟨v64, ev64, nv64, h⟩ := ck_step h
          refine r_dadd hx hb ev64 nv64 dJ15___kernel_tan_448 ?_
          obtain rfl := Option.some.inj h
          rw [eQ]
          exact p_dret hx hb hr hlk dJ15___kernel_tan_449 rfl
        · have h := it_pos h c53
          refine lv_dload hx hb dJ15___kernel_tan_383 (lv_at hl 0 rfl) ?_
          obtain rfl := Option.some.inj h
          rw [eQ]
          exact p_dret hx hb hr hlk dJ15___kernel_tan_385 rfl
      · have h := it_neg h c52
        refine lv_iload hx hb dJ15___kernel_tan_337 (lv_at hl 7 rfl) ?_
        obtain ⟨v65, ev65, h⟩ := ltd_step h
        refine r_i2d hx hb ev65 dJ15___kernel_tan_339 ?_
        refine lv_dstore (lv' := [(9, .double v65), (11, .double v51), (7, .double v50), (13, .double v42), (5, .double v7), (0, .double v4), (2, .double v5), (4, .int x4), (15, .int v2), (16, .int o1)]) hx hb dJ15___kernel_tan_340 hl (by decide) rfl (fun ls hl => ?_)
        refine lv_iconst (v := 1) hx hb dJ15___kernel_tan_342 (by decide) ?_
        refine lv_iload hx hb dJ15___kernel_tan_343 (lv_at hl 9 rfl) ?_
        refine lv_bipush (v := 30) hx hb dJ15___kernel_tan_345 (by decide) ?_
        obtain ⟨v66, ev66, h⟩ := lti_step h
        refine r_ishr hx hb ev66 dJ15___kernel_tan_347 ?_
        refine lv_iconst (v := 2) hx hb dJ15___kernel_tan_348 (by decide) ?_
        obtain ⟨v67, ev67, h⟩ := lti_step h
        refine r_iand hx hb ev67 dJ15___kernel_tan_349 ?_
        obtain ⟨v68, ev68, h⟩ := lti_step h
        refine r_isub hx hb ev68 dJ15___kernel_tan_350 ?_
        obtain ⟨v69, ev69, h⟩ := ltd_step h
        refine r_i2d hx hb ev69 dJ15___kernel_tan_351 ?_
        refine lv_dload hx hb dJ15___kernel_tan_352 (lv_at hl 0 rfl) ?_
        refine lv_ldc2d hx hb (v := 4611686018427387904) hown (hts _ q351) dJ15___kernel_tan_354 ?_
        refine lv_dload_n hx hb dJ15___kernel_tan_357 rfl (lv_at hl 5 rfl) ?_
        refine lv_dload hx hb dJ15___kernel_tan_358 (lv_at hl 1 rfl) ?_
        refine lv_dload hx hb dJ15___kernel_tan_360 (lv_at hl 1 rfl) ?_
        obtain ⟨v70, ev70, nv70, h⟩ := ck_step h
        refine r_dmul hx hb ev70 nv70 dJ15___kernel_tan_362 ?_
        refine lv_dload hx hb dJ15___kernel_tan_363 (lv_at hl 1 rfl) ?_
        refine lv_dload hx hb dJ15___kernel_tan_365 (lv_at hl 0 rfl) ?_
        obtain ⟨v71, ev71, nv71, h⟩ := ck_step h
        refine r_dadd hx hb ev71 nv71 dJ15___kernel_tan_367 ?_
        obtain ⟨v72, ev72, nv72, h⟩ := ck_step h
        refine r_ddiv hx hb ev72 nv72 dJ15___kernel_tan_368 ?_
        refine lv_dload hx hb dJ15___kernel_tan_369 (lv_at hl 2 rfl) ?_
        obtain ⟨v73, ev73, nv73, h⟩ := ck_step h
        refine r_dsub hx hb ev73 nv73 dJ15___kernel_tan_371 ?_
        obtain ⟨v74, ev74, nv74, h⟩ := ck_step h
        refine r_dsub hx hb ev74 nv74 dJ15___kernel_tan_372 ?_
        obtain ⟨v75, ev75, nv75, h⟩ := ck_step h
        refine r_dmul hx hb ev75 nv75 dJ15___kernel_tan_373 ?_
        obtain ⟨v76, ev76, nv76, h⟩ := ck_step h
        refine r_dsub hx hb ev76 nv76 dJ15___kernel_tan_374 ?_
        obtain ⟨v77, ev77, nv77, h⟩ := ck_step h
        refine r_dmul hx hb ev77 nv77 dJ15___kernel_tan_375 ?_
        obtain rfl := Option.some.inj h
        rw [eQ]
        exact p_dret hx hb hr hlk dJ15___kernel_tan_376 rfl
    clear eK6
    refine lv_icmp_lt (tgt := 162) hx hb dJ15___kernel_tan_126 (by decide) (fun c78 => ?_) (fun c78 => ?_)
    · have h := it_pos h c78
      exact HK6 x0 x2 h  ls (lv_sub hl [0, 1, 2, 3, 4] rfl)
    · have h := it_neg h c78
      refine lv_iload hx hb dJ15___kernel_tan_129 (lv_at hl 4 rfl) ?_
      obtain ⟨K81, eK81, h⟩ := lt_step h
      have HK81 : ∀ (v79 : UInt64) (v80 : UInt64) (h : K81 v79 v80 = some r)  (ls : Array Slot) (hl : lv_has ls 21 [(0, .double v79), (2, .double v80), (4, .int x4), (15, .int v2), (16, .int o1)]), W p l e R_J15___kernel_tan s m A below meth c s.heap [] 0 0 Q (F0 m 140 ls []) := by
        intro v79 v80 h ls hl
        subst eK81
        refine lv_ldc2d hx hb (v := 4605249457297304856) hown (hts _ q347) dJ15___kernel_tan_140 ?_
        refine lv_dload_n hx hb dJ15___kernel_tan_143 rfl (lv_at hl 0 rfl) ?_
        obtain ⟨v82, ev82, nv82, h⟩ := ck_step h
        refine r_dsub hx hb ev82 nv82 dJ15___kernel_tan_144 ?_
        refine lv_dstore (lv' := [(5, .double v82), (0, .double v79), (2, .double v80), (4, .int x4), (15, .int v2), (16, .int o1)]) hx hb dJ15___kernel_tan_145 hl (by decide) rfl (fun ls hl => ?_)
        refine lv_ldc2d hx hb (v := 4359948597267291143) hown (hts _ q348) dJ15___kernel_tan_147 ?_
        refine lv_dload_n hx hb dJ15___kernel_tan_150 rfl (lv_at hl 2 rfl) ?_
        obtain ⟨v83, ev83, nv83, h⟩ := ck_step h
        refine r_dsub hx hb ev83 nv83 dJ15___kernel_tan_151 ?_
        refine lv_dstore (lv' := [(11, .double v83), (5, .double v82), (0, .double v79), (2, .double v80), (4, .int x4), (15, .int v2), (16, .int o1)]) hx hb dJ15___kernel_tan_152 hl (by decide) rfl (fun ls hl => ?_)
        refine lv_dload hx hb dJ15___kernel_tan_154 (lv_at hl 1 rfl) ?_
        refine lv_dload hx hb dJ15___kernel_tan_156 (lv_at hl 0 rfl) ?_
        obtain ⟨v84, ev84, nv84, h⟩ := ck_step h
        refine r_dadd hx hb ev84 nv84 dJ15___kernel_tan_158 ?_
        refine lv_dstore_n (lv' := [(0, .double v84), (11, .double v83), (5, .double v82), (2, .double v80), (4, .int x4), (15, .int v2), (16, .int o1)]) hx hb dJ15___kernel_tan_159 rfl hl (by decide) rfl (fun ls hl => ?_)
        refine lv_dconst0 hx hb dJ15___kernel_tan_160 ?_
        refine lv_dstore_n (lv' := [(2, .double 0), (0, .double v84), (11, .double v83), (5, .double v82), (4, .int x4), (15, .int v2), (16, .int o1)]) hx hb dJ15___kernel_tan_161 rfl hl (by decide) rfl (fun ls hl => ?_)
        exact HK6 v84 0 h  ls (lv_sub hl [1, 0, 4, 5, 6] rfl)
      clear eK81
      refine lv_if_ge (tgt := 140) hx hb dJ15___kernel_tan_131 (by decide) (fun c85 => ?_) (fun c85 => ?_)
      · have h := it_pos h c85
        exact HK81 x0 x2 h  ls (lv_sub hl [0, 1, 2, 3, 4] rfl)
      · have h := it_neg h c85
        refine lv_dload_n hx hb dJ15___kernel_tan_134 rfl (lv_at hl 0 rfl) ?_
        obtain ⟨v86, ev86, h⟩ := ltd_step h
        refine r_dneg hx hb ev86 dJ15___kernel_tan_135 ?_
        refine lv_dstore_n (lv' := [(0, .double v86), (2, .double x2), (4, .int x4), (15, .int v2), (16, .int o1)]) hx hb dJ15___kernel_tan_136 rfl hl (by decide) rfl (fun ls hl => ?_)
        refine lv_dload_n hx hb dJ15___kernel_tan_137 rfl (lv_at hl 1 rfl) ?_
        obtain ⟨v87, ev87, h⟩ := ltd_step h
        refine r_dneg hx hb ev87 dJ15___kernel_tan_138 ?_
        refine lv_dstore_n (lv' := [(2, .double v87), (0, .double v86), (4, .int x4), (15, .int v2), (16, .int o1)]) hx hb dJ15___kernel_tan_139 rfl hl (by decide) rfl (fun ls hl => ?_)
        exact HK81 v86 v87 h  ls (lv_sub hl [1, 0, 2, 3, 4] rfl)
  clear eK3
  refine lv_icmp_ge (tgt := 122) hx hb dJ15___kernel_tan_17 (by decide) (fun c88 => ?_) (fun c88 => ?_)
  · have h := it_pos h c88
    exact HK3  h  ls (lv_sub hl [2, 3, 4, 0, 1] rfl)
  · have h := it_neg h c88
    refine lv_dload_n hx hb dJ15___kernel_tan_20 rfl (lv_at hl 2 rfl) ?_
    obtain ⟨v89, ev89, h⟩ := lti_step h
    refine r_d2i hx hb ev89 dJ15___kernel_tan_21 ?_
    refine lv_if_ne (tgt := 122) hx hb dJ15___kernel_tan_22 (by decide) (fun c90 => ?_) (fun c90 => ?_)
    · have h := it_neg h c90
      exact HK3  h  ls (lv_sub hl [2, 3, 4, 0, 1] rfl)
    · have h := it_pos h c90
      refine lv_iload hx hb dJ15___kernel_tan_25 (lv_at hl 0 rfl) ?_
      refine lv_dload_n hx hb dJ15___kernel_tan_27 rfl (lv_at hl 2 rfl) ?_
      obtain ⟨o91, eo91, h⟩ := bind_step h
      refine r_cp (r_runSN (rest := [.int v2]) (As := [.double x0]) hC 1 (m_J8___LO x0  o91 eo91) q342 q228 q49 q229 hd_J8___LO rfl ⟨Nat.le_of_ble_eq_true rfl, Nat.le_of_ble_eq_true rfl⟩ hS trivial hl.1 rfl (Nat.le_of_ble_eq_true rfl) dJ15___kernel_tan_28 ⟨Nat.le_of_ble_eq_true rfl, Nat.le_of_ble_eq_true rfl⟩) ?_
      obtain ⟨v92, ev92, h⟩ := lti_step h
      refine r_ior hx hb ev92 dJ15___kernel_tan_31 ?_
      refine lv_iload hx hb dJ15___kernel_tan_32 (lv_at hl 4 rfl) ?_
      refine lv_iconst (v := 1) hx hb dJ15___kernel_tan_34 (by decide) ?_
      obtain ⟨v93, ev93, h⟩ := lti_step h
      refine r_iadd hx hb ev93 dJ15___kernel_tan_35 ?_
      obtain ⟨v94, ev94, h⟩ := lti_step h
      refine r_ior hx hb ev94 dJ15___kernel_tan_36 ?_
      refine lv_if_ne (tgt := 47) hx hb dJ15___kernel_tan_37 (by decide) (fun c95 => ?_) (fun c95 => ?_)
      · have h := it_neg h c95
        refine lv_iload hx hb dJ15___kernel_tan_47 (lv_at hl 4 rfl) ?_
        refine lv_iconst (v := 1) hx hb dJ15___kernel_tan_49 (by decide) ?_
        refine lv_icmp_ne (tgt := 55) hx hb dJ15___kernel_tan_50 (by decide) (fun c96 => ?_) (fun c96 => ?_)
        · have h := it_neg h c96
          refine lv_dload_n hx hb dJ15___kernel_tan_55 rfl (lv_at hl 2 rfl) ?_
          refine lv_dload_n hx hb dJ15___kernel_tan_56 rfl (lv_at hl 3 rfl) ?_
          obtain ⟨v97, ev97, nv97, h⟩ := ck_step h
          refine r_dadd hx hb ev97 nv97 dJ15___kernel_tan_57 ?_
          refine lv_dup2_2 hx hb dJ15___kernel_tan_58 rfl ?_
          refine lv_dstore (lv' := [(11, .double v97), (15, .int v2), (16, .int o1), (0, .double x0), (2, .double x2), (4, .int x4)]) hx hb dJ15___kernel_tan_59 hl (by decide) rfl (fun ls hl => ?_)
          refine lv_dstore (lv' := [(5, .double v97), (11, .double v97), (15, .int v2), (16, .int o1), (0, .double x0), (2, .double x2), (4, .int x4)]) hx hb dJ15___kernel_tan_61 hl (by decide) rfl (fun ls hl => ?_)
          refine lv_dload hx hb dJ15___kernel_tan_63 (lv_at hl 0 rfl) ?_
          refine lv_iconst (v := 0) hx hb dJ15___kernel_tan_65 (by decide) ?_
          obtain ⟨o98, eo98, h⟩ := bind_step h
          refine r_cp (r_runSN (rest := []) (As := [.double v97, .int 0]) hC 2 (m_J8___LO_2 v97 0  o98 eo98) q344 q231 q49 q232 hd_J8___LO_2 rfl ⟨Nat.le_of_ble_eq_true rfl, Nat.le_of_ble_eq_true rfl⟩ hS trivial hl.1 rfl (Nat.le_of_ble_eq_true rfl) dJ15___kernel_tan_66 ⟨Nat.le_of_ble_eq_true rfl, Nat.le_of_ble_eq_true rfl⟩) ?_
          refine lv_dstore (lv' := [(5, .double o98), (11, .double v97), (15, .int v2), (16, .int o1), (0, .double x0), (2, .double x2), (4, .int x4)]) hx hb dJ15___kernel_tan_69 hl (by decide) rfl (fun ls hl => ?_)
          refine lv_dload_n hx hb dJ15___kernel_tan_71 rfl (lv_at hl 5 rfl) ?_
          refine lv_dload hx hb dJ15___kernel_tan_72 (lv_at hl 0 rfl) ?_
          refine lv_dload_n hx hb dJ15___kernel_tan_74 rfl (lv_at hl 4 rfl) ?_
          obtain ⟨v99, ev99, nv99, h⟩ := ck_step h
          refine r_dsub hx hb ev99 nv99 dJ15___kernel_tan_75 ?_
          obtain ⟨v100, ev100, nv100, h⟩ := ck_step h
          refine r_dsub hx hb ev100 nv100 dJ15___kernel_tan_76 ?_
          refine lv_dstore (lv' := [(9, .double v100), (5, .double o98), (11, .double v97), (15, .int v2), (16, .int o1), (0, .double x0), (2, .double x2), (4, .int x4)]) hx hb dJ15___kernel_tan_77 hl (by decide) rfl (fun ls hl => ?_)
          refine lv_ldc2d hx hb (v := 13830554455654793216) hown (hts _ q345) dJ15___kernel_tan_79 ?_
          refine lv_dload hx hb dJ15___kernel_tan_82 (lv_at hl 2 rfl) ?_
          obtain ⟨v101, ev101, nv101, h⟩ := ck_step h
          refine r_ddiv hx hb ev101 nv101 dJ15___kernel_tan_84 ?_
          refine lv_dup2_2 hx hb dJ15___kernel_tan_85 rfl ?_
          refine lv_dstore (lv' := [(17, .double v101), (9, .double v100), (5, .double o98), (11, .double v97), (15, .int v2), (16, .int o1), (0, .double x0), (2, .double x2), (4, .int x4)]) hx hb dJ15___kernel_tan_86 hl (by decide) rfl (fun ls hl => ?_)
          refine lv_dstore (lv' := [(19, .double v101), (17, .double v101), (9, .double v100), (5, .double o98), (11, .double v97), (15, .int v2), (16, .int o1), (0, .double x0), (2, .double x2), (4, .int x4)]) hx hb dJ15___kernel_tan_88 hl (by decide) rfl (fun ls hl => ?_)
          refine lv_dload hx hb dJ15___kernel_tan_90 (lv_at hl 0 rfl) ?_
          refine lv_iconst (v := 0) hx hb dJ15___kernel_tan_92 (by decide) ?_
          obtain ⟨o102, eo102, h⟩ := bind_step h
          refine r_cp (r_runSN (rest := []) (As := [.double v101, .int 0]) hC 2 (m_J8___LO_2 v101 0  o102 eo102) q344 q231 q49 q232 hd_J8___LO_2 rfl ⟨Nat.le_of_ble_eq_true rfl, Nat.le_of_ble_eq_true rfl⟩ hS trivial hl.1 rfl (Nat.le_of_ble_eq_true rfl) dJ15___kernel_tan_93 ⟨Nat.le_of_ble_eq_true rfl, Nat.le_of_ble_eq_true rfl⟩) ?_
          refine lv_dstore (lv' := [(19, .double o102), (17, .double v101), (9, .double v100), (5, .double o98), (11, .double v97), (15, .int v2), (16, .int o1), (0, .double x0), (2, .double x2), (4, .int x4)]) hx hb dJ15___kernel_tan_96 hl (by decide) rfl (fun ls hl => ?_)
          refine lv_dconst1 hx hb dJ15___kernel_tan_98 ?_
          refine lv_dload hx hb dJ15___kernel_tan_99 (lv_at hl 0 rfl) ?_
          refine lv_dload hx hb dJ15___kernel_tan_101 (lv_at hl 3 rfl) ?_
          obtain ⟨v103, ev103, nv103, h⟩ := ck_step h
          refine r_dmul hx hb ev103 nv103 dJ15___kernel_tan_103 ?_
          obtain ⟨v104, ev104, nv104, h⟩ := ck_step h
          refine r_dadd hx hb ev104 nv104 dJ15___kernel_tan_104 ?_
          refine lv_dstore (lv' := [(13, .double v104), (19, .double o102), (17, .double v101), (9, .double v100), (5, .double o98), (11, .double v97), (15, .int v2), (16, .int o1), (0, .double x0), (2, .double x2), (4, .int x4)]) hx hb dJ15___kernel_tan_105 hl (by decide) rfl (fun ls hl => ?_)
          refine lv_dload hx hb dJ15___kernel_tan_107 (lv_at hl 1 rfl) ?_
          refine lv_dload hx hb dJ15___kernel_tan_109 (lv_at hl 2 rfl) ?_
          refine lv_dload hx hb dJ15___kernel_tan_111 (lv_at hl 0 rfl) ?_
          refine lv_dload hx hb dJ15___kernel_tan_113 (lv_at hl 1 rfl) ?_
          refine lv_dload hx hb dJ15___kernel_tan_115 (lv_at hl 3 rfl) ?_
          obtain ⟨v105, ev105, nv105, h⟩ := ck_step h
          refine r_dmul hx hb ev105 nv105 dJ15___kernel_tan_117 ?_
          obtain ⟨v106, ev106, nv106, h⟩ := ck_step h
          refine r_dadd hx hb ev106 nv106 dJ15___kernel_tan_118 ?_
          obtain ⟨v107, ev107, nv107, h⟩ := ck_step h
          refine r_dmul hx hb ev107 nv107 dJ15___kernel_tan_119 ?_
          obtain ⟨v108, ev108, nv108, h⟩ := ck_step h
          refine r_dadd hx hb ev108 nv108 dJ15___kernel_tan_120 ?_
          obtain rfl := Option.some.inj h
          rw [eQ]
          exact p_dret hx hb hr hlk dJ15___kernel_tan_121 rfl
        · have h := it_pos h c96
          refine lv_dload_n hx hb dJ15___kernel_tan_53 rfl (lv_at hl 2 rfl) ?_
          obtain rfl := Option.some.inj h
          rw [eQ]
          exact p_dret hx hb hr hlk dJ15___kernel_tan_54 rfl
      · have h := it_pos h c95
        refine lv_dconst1 hx hb dJ15___kernel_tan_40 ?_
        refine lv_dload_n hx hb dJ15___kernel_tan_41 rfl (lv_at hl 2 rfl) ?_
        obtain ⟨v109, ev109, nv109, h⟩ := ck_step h
        refine r_dabs hC ev109 nv109 q343 q213 q53 q214 hl.1 (by decide) ⟨Nat.le_of_ble_eq_true rfl, Nat.le_of_ble_eq_true rfl⟩ dJ15___kernel_tan_42 ?_
        obtain ⟨v110, ev110, nv110, h⟩ := ck_step h
        refine r_ddiv hx hb ev110 nv110 dJ15___kernel_tan_45 ?_
        obtain rfl := Option.some.inj h
        rw [eQ]
        exact p_dret hx hb hr hlk dJ15___kernel_tan_46 rfl

