/-! java/lang/Math scalb & Co, StrictMath.floor: by tools/gen14.py -/
abbrev R_J12_getExponent : Room := { frames := 1, cells := 0, slots := 0, locals := 23 }
noncomputable def f_J12_getExponent (x0 : UInt64) : Option (Int32) :=
  ltl ((x0 : UInt64).toInt64) fun v1 =>
  ltl ((v1 &&& 9218868437227405312 : Int64)) fun v2 =>
  ltl ((v2 : Int64) >>> ((52 : Int32).toInt64 &&& 63)) fun v3 =>
  ltl ((v3 - 1023 : Int64)) fun v4 =>
  lti (v4.toInt32) fun v5 =>
  some (v5)
theorem hd_J12_getExponent : Hd yJ12_getExponent 1 := by unfold Hd; decide +kernel
set_option maxHeartbeats 4000000 in
set_option maxRecDepth 100000 in
theorem m_J12_getExponent {l : Launch} {D : DD} (x0 : UInt64)  (r : Int32) (h : f_J12_getExponent x0 = some r) : MP l D yJ12_getExponent cJ12_getExponent 2 (some .int) 1 23 [.double x0] NoPre (some (.int r)) := by
  refine MP.start (by decide +kernel) (Nat.le_of_ble_eq_true rfl) ?_
  intro p e s m below meth c ls hC hS hp hl
  obtain ⟨hx, hb, hr, hlk, hml, hown, hts, hnm⟩ := id hC
  have hl : lv_has ls 2 [(0, .double x0)] := hl
  unfold f_J12_getExponent at h
  have hS0 := hS
  obtain ⟨A, eA⟩ : ∃ A : Array Value, A = [.double x0].toArray := ⟨_, rfl⟩
  rw [← eA] at hC hts ⊢
  obtain ⟨Q, eQ⟩ : ∃ Q : State → Prop, Q = MQ below (PQ (some (.int r))) A s 0 0 (fun _ => False) := ⟨_, rfl⟩
  show W p l e R_J12_getExponent s m A below meth c s.heap [] 0 0 _ _
  rw [← eQ]
  refine lv_dload_n hx hb dJ12_getExponent_0 rfl (lv_at hl 0 rfl) ?_
  refine r_d2l hC q215 q184 q183 q51 hl.1 ⟨Nat.le_of_ble_eq_true rfl, Nat.le_of_ble_eq_true rfl⟩ dJ12_getExponent_1 ?_
  obtain ⟨v1, ev1, h⟩ := ltl_step h
  refine r_nmL ev1 ?_
  refine lv_ldc2 hx hb (v := 9218868437227405312) hown (hts _ q269) dJ12_getExponent_4 ?_
  obtain ⟨v2, ev2, h⟩ := ltl_step h
  refine r_land hx hb ev2 dJ12_getExponent_7 ?_
  refine lv_bipush (v := 52) hx hb dJ12_getExponent_8 (by decide) ?_
  obtain ⟨v3, ev3, h⟩ := ltl_step h
  refine r_lshr hx hb ev3 dJ12_getExponent_10 ?_
  refine lv_ldc2 hx hb (v := 1023) hown (hts _ q268) dJ12_getExponent_11 ?_
  obtain ⟨v4, ev4, h⟩ := ltl_step h
  refine r_lsub hx hb ev4 dJ12_getExponent_14 ?_
  obtain ⟨v5, ev5, h⟩ := lti_step h
  refine r_l2i hx hb ev5 dJ12_getExponent_15 ?_
  obtain rfl := Option.some.inj h
  rw [eQ]
  exact p_iret hx hb hr hlk dJ12_getExponent_16 rfl

abbrev R_J12_powerOfTwoD : Room := { frames := 1, cells := 0, slots := 0, locals := 23 }
noncomputable def f_J12_powerOfTwoD (x0 : Int32) : Option (UInt64) :=
  lt (fun (_u : Unit) =>
  ltl (x0.toInt64) fun v2 =>
  ltl ((v2 + 1023 : Int64)) fun v3 =>
  ltl ((v3 : Int64) <<< ((52 : Int32).toInt64 &&& 63)) fun v4 =>
  ltl ((v4 &&& 9218868437227405312 : Int64)) fun v5 =>
  ask (!vn_snl2d v5) <|
  ltd ((v5 : Int64).toUInt64) fun v7 =>
  some (v7)
  ) fun K1 =>
  K1 ()
theorem hd_J12_powerOfTwoD : Hd yJ12_powerOfTwoD 1 := by unfold Hd; decide +kernel
set_option maxHeartbeats 4000000 in
set_option maxRecDepth 100000 in
theorem m_J12_powerOfTwoD {l : Launch} {D : DD} (x0 : Int32)  (r : UInt64) (h : f_J12_powerOfTwoD x0 = some r) : MP l D yJ12_powerOfTwoD cJ12_powerOfTwoD 1 (some .double) 1 23 [.int x0] NoPre (some (.double r)) := by
  refine MP.start (by decide +kernel) (Nat.le_of_ble_eq_true rfl) ?_
  intro p e s m below meth c ls hC hS hp hl
  obtain ⟨hx, hb, hr, hlk, hml, hown, hts, hnm⟩ := id hC
  have hl : lv_has ls 1 [(0, .int x0)] := hl
  unfold f_J12_powerOfTwoD at h
  have hS0 := hS
  obtain ⟨A, eA⟩ : ∃ A : Array Value, A = [.int x0].toArray := ⟨_, rfl⟩
  rw [← eA] at hC hts ⊢
  obtain ⟨Q, eQ⟩ : ∃ Q : State → Prop, Q = MQ below (PQ (some (.double r))) A s 0 0 (fun _ => False) := ⟨_, rfl⟩
  show W p l e R_J12_powerOfTwoD s m A below meth c s.heap [] 0 0 _ _
  rw [← eQ]
  refine r_gets hx hb hts hown hS 10 rfl q266 dJ12_powerOfTwoD_0 ?_
  obtain ⟨K1, eK1, h⟩ := lt_step h
  have HK1 : ∀  (h : K1 () = some r)  (ls : Array Slot) (hl : lv_has ls 1 [(0, .int x0)]), W p l e R_J12_powerOfTwoD s m A below meth c s.heap [] 0 0 Q (F0 m 28 ls []) := by
    intro h ls hl
    subst eK1
    refine lv_iload_n hx hb dJ12_powerOfTwoD_28 rfl (lv_at hl 0 rfl) ?_
    obtain ⟨v2, ev2, h⟩ := ltl_step h
    refine r_i2l hx hb ev2 dJ12_powerOfTwoD_29 ?_
    refine lv_ldc2 hx hb (v := 1023) hown (hts _ q268) dJ12_powerOfTwoD_30 ?_
    obtain ⟨v3, ev3, h⟩ := ltl_step h
    refine r_ladd hx hb ev3 dJ12_powerOfTwoD_33 ?_
    refine lv_bipush (v := 52) hx hb dJ12_powerOfTwoD_34 (by decide) ?_
    obtain ⟨v4, ev4, h⟩ := ltl_step h
    refine r_lshl hx hb ev4 dJ12_powerOfTwoD_36 ?_
    refine lv_ldc2 hx hb (v := 9218868437227405312) hown (hts _ q269) dJ12_powerOfTwoD_37 ?_
    obtain ⟨v5, ev5, h⟩ := ltl_step h
    refine r_land hx hb ev5 dJ12_powerOfTwoD_40 ?_
    obtain ⟨b6, h⟩ := ask_step h
    refine r_l2d hC q217 q219 q218 q51 (by simpa using b6) hl.1 ⟨Nat.le_of_ble_eq_true rfl, Nat.le_of_ble_eq_true rfl⟩ dJ12_powerOfTwoD_41 ?_
    obtain ⟨v7, ev7, h⟩ := ltd_step h
    refine r_nmD ev7 ?_
    obtain rfl := Option.some.inj h
    rw [eQ]
    exact p_dret hx hb hr hlk dJ12_powerOfTwoD_44 rfl
  clear eK1
  refine lv_if_ne (tgt := 28) hx hb dJ12_powerOfTwoD_3 (by decide) (fun c8 => ?_) (fun c8 => ?_)
  rotate_left
  · exact absurd c8 (by decide)
  exact HK1  h  ls (lv_sub hl [0] rfl)

abbrev R_J12_max : Room := { frames := 0, cells := 0, slots := 0, locals := 0 }
noncomputable def f_J12_max (x0 : Int32) (x1 : Int32) : Option (Int32) :=
  (if x0 < x1 then
    some (x1)
  else
    some (x0)
  )
theorem hd_J12_max : Hd yJ12_max 2 := by unfold Hd; decide +kernel
set_option maxHeartbeats 4000000 in
set_option maxRecDepth 100000 in
theorem m_J12_max {l : Launch} {D : DD} (x0 : Int32) (x1 : Int32)  (r : Int32) (h : f_J12_max x0 x1 = some r) : MP l D yJ12_max cJ12_max 2 (some .int) 0 0 [.int x0, .int x1] NoPre (some (.int r)) := by
  refine MP.start (by decide +kernel) (Nat.le_of_ble_eq_true rfl) ?_
  intro p e s m below meth c ls hC hS hp hl
  obtain ⟨hx, hb, hr, hlk, hml, hown, hts, hnm⟩ := id hC
  have hl : lv_has ls 2 [(0, .int x0), (1, .int x1)] := hl
  unfold f_J12_max at h
  have hS0 := hS
  obtain ⟨A, eA⟩ : ∃ A : Array Value, A = [.int x0, .int x1].toArray := ⟨_, rfl⟩
  rw [← eA] at hC hts ⊢
  obtain ⟨Q, eQ⟩ : ∃ Q : State → Prop, Q = MQ below (PQ (some (.int r))) A s 0 0 (fun _ => False) := ⟨_, rfl⟩
  show W p l e R_J12_max s m A below meth c s.heap [] 0 0 _ _
  rw [← eQ]
  refine lv_iload_n hx hb dJ12_max_0 rfl (lv_at hl 0 rfl) ?_
  refine lv_iload_n hx hb dJ12_max_1 rfl (lv_at hl 1 rfl) ?_
  refine lv_icmp_lt (tgt := 9) hx hb dJ12_max_2 (by decide) (fun c1 => ?_) (fun c1 => ?_)
  · have h := it_pos h c1
    refine lv_iload_n hx hb dJ12_max_9 rfl (lv_at hl 1 rfl) ?_
    obtain rfl := Option.some.inj h
    rw [eQ]
    exact p_iret hx hb hr hlk dJ12_max_10 rfl
  · have h := it_neg h c1
    refine lv_iload_n hx hb dJ12_max_5 rfl (lv_at hl 0 rfl) ?_
    refine lv_goto (tgt := 10) hx hb dJ12_max_6 (by decide) ?_
    obtain rfl := Option.some.inj h
    rw [eQ]
    exact p_iret hx hb hr hlk dJ12_max_10 rfl

abbrev R_J12_min : Room := { frames := 0, cells := 0, slots := 0, locals := 0 }
noncomputable def f_J12_min (x0 : Int32) (x1 : Int32) : Option (Int32) :=
  (if x1 < x0 then
    some (x1)
  else
    some (x0)
  )
theorem hd_J12_min : Hd yJ12_min 2 := by unfold Hd; decide +kernel
set_option maxHeartbeats 4000000 in
set_option maxRecDepth 100000 in
theorem m_J12_min {l : Launch} {D : DD} (x0 : Int32) (x1 : Int32)  (r : Int32) (h : f_J12_min x0 x1 = some r) : MP l D yJ12_min cJ12_min 2 (some .int) 0 0 [.int x0, .int x1] NoPre (some (.int r)) := by
  refine MP.start (by decide +kernel) (Nat.le_of_ble_eq_true rfl) ?_
  intro p e s m below meth c ls hC hS hp hl
  obtain ⟨hx, hb, hr, hlk, hml, hown, hts, hnm⟩ := id hC
  have hl : lv_has ls 2 [(0, .int x0), (1, .int x1)] := hl
  unfold f_J12_min at h
  have hS0 := hS
  obtain ⟨A, eA⟩ : ∃ A : Array Value, A = [.int x0, .int x1].toArray := ⟨_, rfl⟩
  rw [← eA] at hC hts ⊢
  obtain ⟨Q, eQ⟩ : ∃ Q : State → Prop, Q = MQ below (PQ (some (.int r))) A s 0 0 (fun _ => False) := ⟨_, rfl⟩
  show W p l e R_J12_min s m A below meth c s.heap [] 0 0 _ _
  rw [← eQ]
  refine lv_iload_n hx hb dJ12_min_0 rfl (lv_at hl 0 rfl) ?_
  refine lv_iload_n hx hb dJ12_min_1 rfl (lv_at hl 1 rfl) ?_
  refine lv_icmp_gt (tgt := 9) hx hb dJ12_min_2 (by decide) (fun c1 => ?_) (fun c1 => ?_)
  · have h := it_pos h c1
    refine lv_iload_n hx hb dJ12_min_9 rfl (lv_at hl 1 rfl) ?_
    obtain rfl := Option.some.inj h
    rw [eQ]
    exact p_iret hx hb hr hlk dJ12_min_10 rfl
  · have h := it_neg h c1
    refine lv_iload_n hx hb dJ12_min_5 rfl (lv_at hl 0 rfl) ?_
    refine lv_goto (tgt := 10) hx hb dJ12_min_6 (by decide) ?_
    obtain rfl := Option.some.inj h
    rw [eQ]
    exact p_iret hx hb hr hlk dJ12_min_10 rfl

abbrev R_J12_scalb : Room := { frames := 2, cells := 0, slots := 0, locals := 43 }
noncomputable def f_J12_scalb_93 (g15 : Int32) (g16 : UInt64) : Nat → UInt64 → Int32 → Option (UInt64)
  | 0, _, _ => none
  | n + 1, v13, v14 =>
    (if v14 = 0 then
      some (v13)
    else
      ck (dmulF v13 g16) fun v18 =>
      lti (v14 - g15) fun v19 =>
      f_J12_scalb_93 g15 g16 n v18 v19
    )
set_option maxHeartbeats 4000000 in
set_option maxRecDepth 100000 in
theorem b_J12_scalb_93 {p : Program} {l : Launch} {e : Env} {s : State} {m : MethodId} {below : List Frame} {meth : Method} {c : Code} {D : DD} {A : Array Value} {Q : State → Prop} (hC : Cx p s m A meth c yJ12_scalb cJ12_scalb 9 (some .double)) (hS0 : St D s s.heap []) {g15 : Int32} {g16 : UInt64}    : ∀ (n : Nat) (v13 : UInt64) (v14 : Int32) (out : UInt64) (h : f_J12_scalb_93 g15 g16 n v13 v14 = some out)  (ls : Array Slot) (hl : lv_has ls 9 [(0, .double v13), (2, .int v14), (5, .int g15), (6, .double g16)]) (K : ∀  (ls : Array Slot) (hl : lv_has ls 9 [(0, .double out)]), W p l e R_J12_scalb s m A below meth c s.heap [] 0 0 Q (F0 m 110 ls [])), W p l e R_J12_scalb s m A below meth c s.heap [] 0 0 Q (F0 m 93 ls []) := by
  have hS := hS0
  obtain ⟨hx, hb, hr, hlk, hml, hown, hts, hnm⟩ := id hC
  intro n
  induction n with
  | zero => intro v13 v14 out h; unfold f_J12_scalb_93 at h; cases h
  | succ n ih =>
    intro v13 v14 out h  ls hl K
    unfold f_J12_scalb_93 at h
    refine lv_iload_n hx hb dJ12_scalb_93 rfl (lv_at hl 1 rfl) ?_
    refine lv_if_eq (tgt := 110) hx hb dJ12_scalb_94 (by decide) (fun c17 => ?_) (fun c17 => ?_)
    · have h := it_pos h c17
      obtain rfl := Option.some.inj h
      exact K  ls (lv_sub hl [0] rfl)
    · have h := it_neg h c17
      refine lv_dload_n hx hb dJ12_scalb_97 rfl (lv_at hl 0 rfl) ?_
      refine lv_dload hx hb dJ12_scalb_98 (lv_at hl 3 rfl) ?_
      obtain ⟨v18, ev18, nv18, h⟩ := ck_step h
      refine r_dmul hx hb ev18 nv18 dJ12_scalb_100 ?_
      refine lv_dstore_n (lv' := [(0, .double v18), (2, .int v14), (5, .int g15), (6, .double g16)]) hx hb dJ12_scalb_101 rfl hl (by decide) rfl (fun ls hl => ?_)
      refine lv_iload_n hx hb dJ12_scalb_102 rfl (lv_at hl 1 rfl) ?_
      refine lv_iload hx hb dJ12_scalb_103 (lv_at hl 2 rfl) ?_
      obtain ⟨v19, ev19, h⟩ := lti_step h
      refine r_isub hx hb ev19 dJ12_scalb_105 ?_
      refine lv_istore_n (lv' := [(2, .int v19), (0, .double v18), (5, .int g15), (6, .double g16)]) hx hb dJ12_scalb_106 rfl hl (by decide) rfl (fun ls hl => ?_)
      refine lv_goto (tgt := 93) hx hb dJ12_scalb_107 (by decide) ?_
      exact ih v18 v19 out h  ls (lv_sub hl [1, 0, 2, 3] rfl) K
noncomputable def f_J12_scalb (x0 : UInt64) (x2 : Int32) : Option (UInt64) :=
  lt (fun (v1 : Int32) (v2 : Int32) (v3 : UInt64) =>
  lti (v1 >>> (8 &&& 31)) fun v5 =>
  lti (((v5 : Int32).toUInt32 >>> ((23 : Int32).toUInt32 &&& Int32.toUInt32 31)).toInt32) fun v6 =>
  lti (v1 + v6) fun v7 =>
  lti (v7 &&& 511) fun v8 =>
  lti (v8 - v6) fun v9 =>
  Option.bind (f_J12_powerOfTwoD v9) fun o10 =>
  ck (dmulF x0 o10) fun v11 =>
  lti (v1 - v9) fun v12 =>
  Option.bind (f_J12_scalb_93 v2 v3 64 v11 v12) fun o20 =>
  some (o20)
  ) fun K4 =>
  (if 0 ≤ x2 then
    Option.bind (f_J12_min x2 2099) fun o22 =>
    K4 o22 512 6913025428013711360
  else
    Option.bind (f_J12_max x2 (-2099)) fun o23 =>
    K4 o23 (-512) 2301339409586323456
  )
theorem hd_J12_scalb : Hd yJ12_scalb 2 := by unfold Hd; decide +kernel
set_option maxHeartbeats 4000000 in
set_option maxRecDepth 100000 in
theorem m_J12_scalb {l : Launch} {D : DD} (x0 : UInt64) (x2 : Int32)  (r : UInt64) (h : f_J12_scalb x0 x2 = some r) : MP l D yJ12_scalb cJ12_scalb 9 (some .double) 2 43 [.double x0, .int x2] NoPre (some (.double r)) := by
  refine MP.start (by decide +kernel) (Nat.le_of_ble_eq_true rfl) ?_
  intro p e s m below meth c ls hC hS hp hl
  obtain ⟨hx, hb, hr, hlk, hml, hown, hts, hnm⟩ := id hC
  have hl : lv_has ls 9 [(0, .double x0), (2, .int x2)] := hl
  unfold f_J12_scalb at h
  have hS0 := hS
  obtain ⟨A, eA⟩ : ∃ A : Array Value, A = [.double x0, .int x2].toArray := ⟨_, rfl⟩
  rw [← eA] at hC hts ⊢
  obtain ⟨Q, eQ⟩ : ∃ Q : State → Prop, Q = MQ below (PQ (some (.double r))) A s 0 0 (fun _ => False) := ⟨_, rfl⟩
  show W p l e R_J12_scalb s m A below meth c s.heap [] 0 0 _ _
  rw [← eQ]
  refine lv_sipush (v := 2099) hx hb dJ12_scalb_0 (by decide) ?_
  refine lv_istore_n (lv' := [(3, .int 2099), (0, .double x0), (2, .int x2)]) hx hb dJ12_scalb_3 rfl hl (by decide) rfl (fun ls hl => ?_)
  refine lv_iconst (v := 0) hx hb dJ12_scalb_4 (by decide) ?_
  refine lv_istore (lv' := [(4, .int 0), (3, .int 2099), (0, .double x0), (2, .int x2)]) hx hb dJ12_scalb_5 hl (by decide) rfl (fun ls hl => ?_)
  refine lv_iconst (v := 0) hx hb dJ12_scalb_7 (by decide) ?_
  refine lv_istore (lv' := [(5, .int 0), (4, .int 0), (3, .int 2099), (0, .double x0), (2, .int x2)]) hx hb dJ12_scalb_8 hl (by decide) rfl (fun ls hl => ?_)
  refine lv_ldc2d hx hb (v := 9221120237041090560) hown (hts _ q252) dJ12_scalb_10 ?_
  refine lv_dstore (lv' := [(6, .double 9221120237041090560), (5, .int 0), (4, .int 0), (3, .int 2099), (0, .double x0), (2, .int x2)]) hx hb dJ12_scalb_13 hl (by decide) rfl (fun ls hl => ?_)
  refine lv_iload_n hx hb dJ12_scalb_15 rfl (lv_at hl 5 rfl) ?_
  obtain ⟨K4, eK4, h⟩ := lt_step h
  have HK4 : ∀ (v1 : Int32) (v2 : Int32) (v3 : UInt64) (h : K4 v1 v2 v3 = some r)  (ls : Array Slot) (hl : lv_has ls 9 [(0, .double x0), (2, .int v1), (5, .int v2), (6, .double v3)]), W p l e R_J12_scalb s m A below meth c s.heap [] 0 0 Q (F0 m 58 ls []) := by
    intro v1 v2 v3 h ls hl
    subst eK4
    refine lv_iload_n hx hb dJ12_scalb_58 rfl (lv_at hl 1 rfl) ?_
    refine lv_bipush (v := 8) hx hb dJ12_scalb_59 (by decide) ?_
    obtain ⟨v5, ev5, h⟩ := lti_step h
    refine r_ishr hx hb ev5 dJ12_scalb_61 ?_
    refine lv_bipush (v := 23) hx hb dJ12_scalb_62 (by decide) ?_
    obtain ⟨v6, ev6, h⟩ := lti_step h
    refine r_iushr hx hb ev6 dJ12_scalb_64 ?_
    refine lv_istore (lv' := [(8, .int v6), (0, .double x0), (2, .int v1), (5, .int v2), (6, .double v3)]) hx hb dJ12_scalb_65 hl (by decide) rfl (fun ls hl => ?_)
    refine lv_iload_n hx hb dJ12_scalb_67 rfl (lv_at hl 2 rfl) ?_
    refine lv_iload hx hb dJ12_scalb_68 (lv_at hl 0 rfl) ?_
    obtain ⟨v7, ev7, h⟩ := lti_step h
    refine r_iadd hx hb ev7 dJ12_scalb_70 ?_
    refine lv_sipush (v := 511) hx hb dJ12_scalb_71 (by decide) ?_
    obtain ⟨v8, ev8, h⟩ := lti_step h
    refine r_iand hx hb ev8 dJ12_scalb_74 ?_
    refine lv_iload hx hb dJ12_scalb_75 (lv_at hl 0 rfl) ?_
    obtain ⟨v9, ev9, h⟩ := lti_step h
    refine r_isub hx hb ev9 dJ12_scalb_77 ?_
    refine lv_istore (lv' := [(4, .int v9), (8, .int v6), (0, .double x0), (2, .int v1), (5, .int v2), (6, .double v3)]) hx hb dJ12_scalb_78 hl (by decide) rfl (fun ls hl => ?_)
    refine lv_dload_n hx hb dJ12_scalb_80 rfl (lv_at hl 2 rfl) ?_
    refine lv_iload hx hb dJ12_scalb_81 (lv_at hl 0 rfl) ?_
    obtain ⟨o10, eo10, h⟩ := bind_step h
    refine r_cp (r_runS (rest := [.double x0]) (As := [.int v9]) hC 1 (m_J12_powerOfTwoD v9  o10 eo10) q263 q264 q53 q265 hd_J12_powerOfTwoD rfl ⟨Nat.le_of_ble_eq_true rfl, Nat.le_of_ble_eq_true rfl⟩ hS trivial hl.1 rfl (Nat.le_of_ble_eq_true rfl) dJ12_scalb_83 ⟨Nat.le_of_ble_eq_true rfl, Nat.le_of_ble_eq_true rfl⟩) ?_
    obtain ⟨v11, ev11, nv11, h⟩ := ck_step h
    refine r_dmul hx hb ev11 nv11 dJ12_scalb_86 ?_
    refine lv_dstore_n (lv' := [(0, .double v11), (4, .int v9), (8, .int v6), (2, .int v1), (5, .int v2), (6, .double v3)]) hx hb dJ12_scalb_87 rfl hl (by decide) rfl (fun ls hl => ?_)
    refine lv_iload_n hx hb dJ12_scalb_88 rfl (lv_at hl 3 rfl) ?_
    refine lv_iload hx hb dJ12_scalb_89 (lv_at hl 1 rfl) ?_
    obtain ⟨v12, ev12, h⟩ := lti_step h
    refine r_isub hx hb ev12 dJ12_scalb_91 ?_
    refine lv_istore_n (lv' := [(2, .int v12), (0, .double v11), (4, .int v9), (8, .int v6), (5, .int v2), (6, .double v3)]) hx hb dJ12_scalb_92 rfl hl (by decide) rfl (fun ls hl => ?_)
    obtain ⟨o20, eo20, h⟩ := bind_step h
    refine b_J12_scalb_93 hC hS    64 v11 v12 o20 eo20  ls (lv_sub hl [1, 0, 4, 5] rfl) (fun  ls hl => ?_)
    refine lv_dload_n hx hb dJ12_scalb_110 rfl (lv_at hl 0 rfl) ?_
    obtain rfl := Option.some.inj h
    rw [eQ]
    exact p_dret hx hb hr hlk dJ12_scalb_111 rfl
  clear eK4
  refine lv_if_ge (tgt := 40) hx hb dJ12_scalb_16 (by decide) (fun c21 => ?_) (fun c21 => ?_)
  · have h := it_pos h c21
    refine lv_iload_n hx hb dJ12_scalb_40 rfl (lv_at hl 5 rfl) ?_
    refine lv_sipush (v := 2099) hx hb dJ12_scalb_41 (by decide) ?_
    obtain ⟨o22, eo22, h⟩ := bind_step h
    refine r_cp (r_runS (rest := []) (As := [.int x2, .int 2099]) hC 2 (m_J12_min x2 2099  o22 eo22) q258 q259 q53 q260 hd_J12_min rfl ⟨Nat.le_of_ble_eq_true rfl, Nat.le_of_ble_eq_true rfl⟩ hS trivial hl.1 rfl (Nat.le_of_ble_eq_true rfl) dJ12_scalb_44 ⟨Nat.le_of_ble_eq_true rfl, Nat.le_of_ble_eq_true rfl⟩) ?_
    refine lv_istore_n (lv' := [(2, .int o22), (6, .double 9221120237041090560), (5, .int 0), (4, .int 0), (3, .int 2099), (0, .double x0)]) hx hb dJ12_scalb_47 rfl hl (by decide) rfl (fun ls hl => ?_)
    refine lv_sipush (v := 512) hx hb dJ12_scalb_48 (by decide) ?_
    refine lv_istore (lv' := [(5, .int 512), (2, .int o22), (6, .double 9221120237041090560), (4, .int 0), (3, .int 2099), (0, .double x0)]) hx hb dJ12_scalb_51 hl (by decide) rfl (fun ls hl => ?_)
    refine r_gets hx hb hts hown hS 9 rfl q261 dJ12_scalb_53 ?_
    refine lv_dstore (lv' := [(6, .double 6913025428013711360), (5, .int 512), (2, .int o22), (4, .int 0), (3, .int 2099), (0, .double x0)]) hx hb dJ12_scalb_56 hl (by decide) rfl (fun ls hl => ?_)
    exact HK4 o22 512 6913025428013711360 h  ls (lv_sub hl [5, 2, 1, 0] rfl)
  · have h := it_neg h c21
    refine lv_iload_n hx hb dJ12_scalb_19 rfl (lv_at hl 5 rfl) ?_
    refine lv_sipush (v := (-2099)) hx hb dJ12_scalb_20 (by decide) ?_
    obtain ⟨o23, eo23, h⟩ := bind_step h
    refine r_cp (r_runS (rest := []) (As := [.int x2, .int (-2099)]) hC 2 (m_J12_max x2 (-2099)  o23 eo23) q253 q254 q53 q255 hd_J12_max rfl ⟨Nat.le_of_ble_eq_true rfl, Nat.le_of_ble_eq_true rfl⟩ hS trivial hl.1 rfl (Nat.le_of_ble_eq_true rfl) dJ12_scalb_23 ⟨Nat.le_of_ble_eq_true rfl, Nat.le_of_ble_eq_true rfl⟩) ?_
    refine lv_istore_n (lv' := [(2, .int o23), (6, .double 9221120237041090560), (5, .int 0), (4, .int 0), (3, .int 2099), (0, .double x0)]) hx hb dJ12_scalb_26 rfl hl (by decide) rfl (fun ls hl => ?_)
    refine lv_sipush (v := (-512)) hx hb dJ12_scalb_27 (by decide) ?_
    refine lv_istore (lv' := [(5, .int (-512)), (2, .int o23), (6, .double 9221120237041090560), (4, .int 0), (3, .int 2099), (0, .double x0)]) hx hb dJ12_scalb_30 hl (by decide) rfl (fun ls hl => ?_)
    refine r_gets hx hb hts hown hS 8 rfl q256 dJ12_scalb_32 ?_
    refine lv_dstore (lv' := [(6, .double 2301339409586323456), (5, .int (-512)), (2, .int o23), (4, .int 0), (3, .int 2099), (0, .double x0)]) hx hb dJ12_scalb_35 hl (by decide) rfl (fun ls hl => ?_)
    refine lv_goto (tgt := 58) hx hb dJ12_scalb_37 (by decide) ?_
    exact HK4 o23 (-512) 2301339409586323456 h  ls (lv_sub hl [5, 2, 1, 0] rfl)

abbrev R_J6_floorOrCeil : Room := { frames := 2, cells := 0, slots := 0, locals := 44 }
noncomputable def f_J6_floorOrCeil (x0 : UInt64) (x2 : UInt64) (x4 : UInt64) (x6 : UInt64) : Option (UInt64) :=
  Option.bind (f_J12_getExponent x0) fun o1 =>
  (if 0 ≤ o1 then
    (if o1 < 52 then
      lt (fun (_u : Unit) =>
      ltl ((x0 : UInt64).toInt64) fun v5 =>
      ltl ((4503599627370495 : Int64) >>> ((o1 : Int32).toInt64 &&& 63)) fun v6 =>
      ltl ((v6 &&& v5 : Int64)) fun v7 =>
      lti (lg_cmp v7 0) fun v8 =>
      (if v8 = 0 then
        some (x0)
      else
        ltl ((v6 ^^^ (-1) : Int64)) fun v10 =>
        ltl ((v5 &&& v10 : Int64)) fun v11 =>
        ask (!vn_snl2d v11) <|
        ltd ((v11 : Int64).toUInt64) fun v13 =>
        ck (dmulF x6 x0) fun v14 =>
        lti (dcmpF v14 0 .l) fun v15 =>
        (if v15 ≤ 0 then
          some (v13)
        else
          ck (daddF v13 x6) fun v17 =>
          some (v17)
        )
      )
      ) fun K4 =>
      K4 ()
    else
      some (x0)
    )
  else
    lti (dcmpF x0 0 .l) fun v19 =>
    (if v19 = 0 then
      some (x0)
    else
      lti (dcmpF x0 0 .g) fun v21 =>
      (if 0 ≤ v21 then
        some (x4)
      else
        some (x2)
      )
    )
  )
theorem hd_J6_floorOrCeil : Hd yJ6_floorOrCeil 4 := by unfold Hd; decide +kernel
set_option maxHeartbeats 4000000 in
set_option maxRecDepth 100000 in
theorem m_J6_floorOrCeil {l : Launch} {D : DD} (x0 : UInt64) (x2 : UInt64) (x4 : UInt64) (x6 : UInt64)  (r : UInt64) (h : f_J6_floorOrCeil x0 x2 x4 x6 = some r) : MP l D yJ6_floorOrCeil cJ6_floorOrCeil 15 (some .double) 2 44 [.double x0, .double x2, .double x4, .double x6] NoPre (some (.double r)) := by
  refine MP.start (by decide +kernel) (Nat.le_of_ble_eq_true rfl) ?_
  intro p e s m below meth c ls hC hS hp hl
  obtain ⟨hx, hb, hr, hlk, hml, hown, hts, hnm⟩ := id hC
  have hl : lv_has ls 15 [(0, .double x0), (2, .double x2), (4, .double x4), (6, .double x6)] := hl
  unfold f_J6_floorOrCeil at h
  have hS0 := hS
  obtain ⟨A, eA⟩ : ∃ A : Array Value, A = [.double x0, .double x2, .double x4, .double x6].toArray := ⟨_, rfl⟩
  rw [← eA] at hC hts ⊢
  obtain ⟨Q, eQ⟩ : ∃ Q : State → Prop, Q = MQ below (PQ (some (.double r))) A s 0 0 (fun _ => False) := ⟨_, rfl⟩
  show W p l e R_J6_floorOrCeil s m A below meth c s.heap [] 0 0 _ _
  rw [← eQ]
  refine lv_dload_n hx hb dJ6_floorOrCeil_0 rfl (lv_at hl 0 rfl) ?_
  obtain ⟨o1, eo1, h⟩ := bind_step h
  refine r_cp (r_runS (rest := []) (As := [.double x0]) hC 1 (m_J12_getExponent x0  o1 eo1) q282 q283 q53 q284 hd_J12_getExponent rfl ⟨Nat.le_of_ble_eq_true rfl, Nat.le_of_ble_eq_true rfl⟩ hS trivial hl.1 rfl (Nat.le_of_ble_eq_true rfl) dJ6_floorOrCeil_1 ⟨Nat.le_of_ble_eq_true rfl, Nat.le_of_ble_eq_true rfl⟩) ?_
  refine lv_istore (lv' := [(8, .int o1), (0, .double x0), (2, .double x2), (4, .double x4), (6, .double x6)]) hx hb dJ6_floorOrCeil_4 hl (by decide) rfl (fun ls hl => ?_)
  refine lv_iload hx hb dJ6_floorOrCeil_6 (lv_at hl 0 rfl) ?_
  refine lv_if_ge (tgt := 34) hx hb dJ6_floorOrCeil_8 (by decide) (fun c2 => ?_) (fun c2 => ?_)
  · have h := it_pos h c2
    refine lv_iload hx hb dJ6_floorOrCeil_34 (lv_at hl 0 rfl) ?_
    refine lv_bipush (v := 52) hx hb dJ6_floorOrCeil_36 (by decide) ?_
    refine lv_icmp_lt (tgt := 43) hx hb dJ6_floorOrCeil_38 (by decide) (fun c3 => ?_) (fun c3 => ?_)
    · have h := it_pos h c3
      refine r_gets hx hb hts hown hS 12 rfl q285 dJ6_floorOrCeil_43 ?_
      obtain ⟨K4, eK4, h⟩ := lt_step h
      have HK4 : ∀  (h : K4 () = some r)  (ls : Array Slot) (hl : lv_has ls 15 [(0, .double x0), (6, .double x6), (8, .int o1)]), W p l e R_J6_floorOrCeil s m A below meth c s.heap [] 0 0 Q (F0 m 69 ls []) := by
        intro h ls hl
        subst eK4
        refine lv_dload_n hx hb dJ6_floorOrCeil_69 rfl (lv_at hl 0 rfl) ?_
        refine r_d2l hC q287 q184 q183 q51 hl.1 ⟨Nat.le_of_ble_eq_true rfl, Nat.le_of_ble_eq_true rfl⟩ dJ6_floorOrCeil_70 ?_
        obtain ⟨v5, ev5, h⟩ := ltl_step h
        refine r_nmL ev5 ?_
        refine lv_lstore (lv' := [(9, .long v5), (0, .double x0), (6, .double x6), (8, .int o1)]) hx hb dJ6_floorOrCeil_73 hl (by decide) rfl (fun ls hl => ?_)
        refine lv_ldc2 hx hb (v := 4503599627370495) hown (hts _ q288) dJ6_floorOrCeil_75 ?_
        refine lv_iload hx hb dJ6_floorOrCeil_78 (lv_at hl 3 rfl) ?_
        obtain ⟨v6, ev6, h⟩ := ltl_step h
        refine r_lshr hx hb ev6 dJ6_floorOrCeil_80 ?_
        refine lv_lstore (lv' := [(11, .long v6), (9, .long v5), (0, .double x0), (6, .double x6), (8, .int o1)]) hx hb dJ6_floorOrCeil_81 hl (by decide) rfl (fun ls hl => ?_)
        refine lv_lload hx hb dJ6_floorOrCeil_83 (lv_at hl 0 rfl) ?_
        refine lv_lload hx hb dJ6_floorOrCeil_85 (lv_at hl 1 rfl) ?_
        obtain ⟨v7, ev7, h⟩ := ltl_step h
        refine r_land hx hb ev7 dJ6_floorOrCeil_87 ?_
        refine lv_lconst (v := 0) hx hb dJ6_floorOrCeil_88 rfl ?_
        obtain ⟨v8, ev8, h⟩ := lti_step h
        refine r_lcmp hx hb ev8 dJ6_floorOrCeil_89 ?_
        refine lv_if_ne (tgt := 95) hx hb dJ6_floorOrCeil_90 (by decide) (fun c9 => ?_) (fun c9 => ?_)
        · have h := it_neg h c9
          refine lv_lload hx hb dJ6_floorOrCeil_95 (lv_at hl 1 rfl) ?_
          refine lv_lload hx hb dJ6_floorOrCeil_97 (lv_at hl 0 rfl) ?_
          refine lv_ldc2 hx hb (v := (-1)) hown (hts _ q289) dJ6_floorOrCeil_99 ?_
          obtain ⟨v10, ev10, h⟩ := ltl_step h
          refine r_lxor hx hb ev10 dJ6_floorOrCeil_102 ?_
          obtain ⟨v11, ev11, h⟩ := ltl_step h
          refine r_land hx hb ev11 dJ6_floorOrCeil_103 ?_
          obtain ⟨b12, h⟩ := ask_step h
          refine r_l2d hC q290 q219 q218 q51 (by simpa using b12) hl.1 ⟨Nat.le_of_ble_eq_true rfl, Nat.le_of_ble_eq_true rfl⟩ dJ6_floorOrCeil_104 ?_
          obtain ⟨v13, ev13, h⟩ := ltd_step h
          refine r_nmD ev13 ?_
          refine lv_dstore (lv' := [(13, .double v13), (11, .long v6), (9, .long v5), (0, .double x0), (6, .double x6), (8, .int o1)]) hx hb dJ6_floorOrCeil_107 hl (by decide) rfl (fun ls hl => ?_)
          refine lv_dload hx hb dJ6_floorOrCeil_109 (lv_at hl 4 rfl) ?_
          refine lv_dload_n hx hb dJ6_floorOrCeil_111 rfl (lv_at hl 3 rfl) ?_
          obtain ⟨v14, ev14, nv14, h⟩ := ck_step h
          refine r_dmul hx hb ev14 nv14 dJ6_floorOrCeil_112 ?_
          refine lv_dconst0 hx hb dJ6_floorOrCeil_113 ?_
          obtain ⟨v15, ev15, h⟩ := lti_step h
          refine r_dcmp hx hb ev15 dJ6_floorOrCeil_114 ?_
          refine lv_if_le (tgt := 125) hx hb dJ6_floorOrCeil_115 (by decide) (fun c16 => ?_) (fun c16 => ?_)
          · have h := it_pos h c16
            refine lv_dload hx hb dJ6_floorOrCeil_125 (lv_at hl 0 rfl) ?_
            obtain rfl := Option.some.inj h
            rw [eQ]
            exact p_dret hx hb hr hlk dJ6_floorOrCeil_127 rfl
          · have h := it_neg h c16
            refine lv_dload hx hb dJ6_floorOrCeil_118 (lv_at hl 0 rfl) ?_
            refine lv_dload hx hb dJ6_floorOrCeil_120 (lv_at hl 4 rfl) ?_
            obtain ⟨v17, ev17, nv17, h⟩ := ck_step h
            refine r_dadd hx hb ev17 nv17 dJ6_floorOrCeil_122 ?_
            refine lv_dstore (lv' := [(13, .double v17), (11, .long v6), (9, .long v5), (0, .double x0), (6, .double x6), (8, .int o1)]) hx hb dJ6_floorOrCeil_123 hl (by decide) rfl (fun ls hl => ?_)
            refine lv_dload hx hb dJ6_floorOrCeil_125 (lv_at hl 0 rfl) ?_
            obtain rfl := Option.some.inj h
            rw [eQ]
            exact p_dret hx hb hr hlk dJ6_floorOrCeil_127 rfl
        · have h := it_pos h c9
          refine lv_dload_n hx hb dJ6_floorOrCeil_93 rfl (lv_at hl 2 rfl) ?_
          obtain rfl := Option.some.inj h
          rw [eQ]
          exact p_dret hx hb hr hlk dJ6_floorOrCeil_94 rfl
      clear eK4
      refine lv_if_ne (tgt := 69) hx hb dJ6_floorOrCeil_46 (by decide) (fun c18 => ?_) (fun c18 => ?_)
      rotate_left
      · exact absurd c18 (by decide)
      exact HK4  h  ls (lv_sub hl [1, 4, 0] rfl)
    · have h := it_neg h c3
      refine lv_dload_n hx hb dJ6_floorOrCeil_41 rfl (lv_at hl 1 rfl) ?_
      obtain rfl := Option.some.inj h
      rw [eQ]
      exact p_dret hx hb hr hlk dJ6_floorOrCeil_42 rfl
  · have h := it_neg h c2
    refine lv_dload_n hx hb dJ6_floorOrCeil_11 rfl (lv_at hl 1 rfl) ?_
    refine lv_dconst0 hx hb dJ6_floorOrCeil_12 ?_
    obtain ⟨v19, ev19, h⟩ := lti_step h
    refine r_dcmp hx hb ev19 dJ6_floorOrCeil_13 ?_
    refine lv_if_ne (tgt := 21) hx hb dJ6_floorOrCeil_14 (by decide) (fun c20 => ?_) (fun c20 => ?_)
    · have h := it_neg h c20
      refine lv_dload_n hx hb dJ6_floorOrCeil_21 rfl (lv_at hl 1 rfl) ?_
      refine lv_dconst0 hx hb dJ6_floorOrCeil_22 ?_
      obtain ⟨v21, ev21, h⟩ := lti_step h
      refine r_dcmp hx hb ev21 dJ6_floorOrCeil_23 ?_
      refine lv_if_ge (tgt := 31) hx hb dJ6_floorOrCeil_24 (by decide) (fun c22 => ?_) (fun c22 => ?_)
      · have h := it_pos h c22
        refine lv_dload hx hb dJ6_floorOrCeil_31 (lv_at hl 3 rfl) ?_
        obtain rfl := Option.some.inj h
        rw [eQ]
        exact p_dret hx hb hr hlk dJ6_floorOrCeil_33 rfl
      · have h := it_neg h c22
        refine lv_dload_n hx hb dJ6_floorOrCeil_27 rfl (lv_at hl 2 rfl) ?_
        refine lv_goto (tgt := 33) hx hb dJ6_floorOrCeil_28 (by decide) ?_
        obtain rfl := Option.some.inj h
        rw [eQ]
        exact p_dret hx hb hr hlk dJ6_floorOrCeil_33 rfl
    · have h := it_pos h c20
      refine lv_dload_n hx hb dJ6_floorOrCeil_17 rfl (lv_at hl 1 rfl) ?_
      refine lv_goto (tgt := 33) hx hb dJ6_floorOrCeil_18 (by decide) ?_
      obtain rfl := Option.some.inj h
      rw [eQ]
      exact p_dret hx hb hr hlk dJ6_floorOrCeil_33 rfl

abbrev R_J6_floor : Room := { frames := 3, cells := 0, slots := 0, locals := 78 }
noncomputable def f_J6_floor (x0 : UInt64) : Option (UInt64) :=
  Option.bind (f_J6_floorOrCeil x0 13830554455654793216 0 13830554455654793216) fun o1 =>
  some (o1)
theorem hd_J6_floor : Hd yJ6_floor 1 := by unfold Hd; decide +kernel
set_option maxHeartbeats 4000000 in
set_option maxRecDepth 100000 in
theorem m_J6_floor {l : Launch} {D : DD} (x0 : UInt64)  (r : UInt64) (h : f_J6_floor x0 = some r) : MP l D yJ6_floor cJ6_floor 2 (some .double) 3 78 [.double x0] NoPre (some (.double r)) := by
  refine MP.start (by decide +kernel) (Nat.le_of_ble_eq_true rfl) ?_
  intro p e s m below meth c ls hC hS hp hl
  obtain ⟨hx, hb, hr, hlk, hml, hown, hts, hnm⟩ := id hC
  have hl : lv_has ls 2 [(0, .double x0)] := hl
  unfold f_J6_floor at h
  have hS0 := hS
  obtain ⟨A, eA⟩ : ∃ A : Array Value, A = [.double x0].toArray := ⟨_, rfl⟩
  rw [← eA] at hC hts ⊢
  obtain ⟨Q, eQ⟩ : ∃ Q : State → Prop, Q = MQ below (PQ (some (.double r))) A s 0 0 (fun _ => False) := ⟨_, rfl⟩
  show W p l e R_J6_floor s m A below meth c s.heap [] 0 0 _ _
  rw [← eQ]
  refine lv_dload_n hx hb dJ6_floor_0 rfl (lv_at hl 0 rfl) ?_
  refine lv_ldc2d hx hb (v := 13830554455654793216) hown (hts _ q278) dJ6_floor_1 ?_
  refine lv_dconst0 hx hb dJ6_floor_4 ?_
  refine lv_ldc2d hx hb (v := 13830554455654793216) hown (hts _ q278) dJ6_floor_5 ?_
  obtain ⟨o1, eo1, h⟩ := bind_step h
  refine r_cp (r_runS (rest := []) (As := [.double x0, .double 13830554455654793216, .double 0, .double 13830554455654793216]) hC 4 (m_J6_floorOrCeil x0 13830554455654793216 0 13830554455654793216  o1 eo1) q279 q280 q47 q281 hd_J6_floorOrCeil rfl ⟨Nat.le_of_ble_eq_true rfl, Nat.le_of_ble_eq_true rfl⟩ hS trivial hl.1 rfl (Nat.le_of_ble_eq_true rfl) dJ6_floor_8 ⟨Nat.le_of_ble_eq_true rfl, Nat.le_of_ble_eq_true rfl⟩) ?_
  obtain rfl := Option.some.inj h
  rw [eQ]
  exact p_dret hx hb hr hlk dJ6_floor_11 rfl

