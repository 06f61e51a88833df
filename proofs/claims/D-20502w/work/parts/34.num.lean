/-! Long.parseLong, String.hashCode; by tools/gen34.py -/
abbrev R_J31_digit : Room := { frames := 0, cells := 0, slots := 0, locals := 0 }
noncomputable def f_J31_digit (x1 : Int32) (x2 : Int32) : Option (Int32) :=
  gd 256 x1 fun i1 =>
  lti (tb_DIGITS i1) fun v2 =>
  (if v2 < 0 then
    some (-1)
  else
    (if x2 ≤ v2 then
      some (-1)
    else
      (if x2 < 2 then
        some (-1)
      else
        (if 36 < x2 then
          some (-1)
        else
          some v2
        )
      )
    )
  )
theorem hd_J31_digit : Hd yJ31_digit 2 := by unfold Hd; decide +kernel
set_option maxHeartbeats 4000000 in
set_option maxRecDepth 100000 in
theorem m_J31_digit {l : Launch} {D : DD} (x0 : Nat)  (x1 : Int32) (x2 : Int32) (r : Int32) (h : f_J31_digit x1 x2 = some r) : MP l D yJ31_digit cJ31_digit 4 (some .int) 0 0 [.ref x0, .int x1, .int x2] NoPre (some (.int r)) := by
  refine MP.start (by decide +kernel) (Nat.le_of_ble_eq_true rfl) ?_
  intro p e s m below meth c ls hC hS hp hl
  obtain ⟨hx, hb, hr, hlk, hml, hown, hts, hnm⟩ := id hC
  have hl : lv_has ls 4 [(0, .ref x0), (1, .int x1), (2, .int x2)] := hl
  unfold f_J31_digit at h
  have hS0 := hS
  obtain ⟨A, eA⟩ : ∃ A : Array Value, A = [.ref x0, .int x1, .int x2].toArray := ⟨_, rfl⟩
  rw [← eA] at hC hts ⊢
  obtain ⟨Q, eQ⟩ : ∃ Q : State → Prop, Q = MQ below (PQ (some (.int r))) A s 0 0 (fun _ => False) := ⟨_, rfl⟩
  show W p l e R_J31_digit s m A below meth c s.heap [] 0 0 _ _
  rw [← eQ]
  refine r_gets hx hb hts hown hS 19 rfl q1187 dJ31_digit_0 ?_
  refine lv_iload_n hx hb dJ31_digit_3 rfl (lv_at hl 1 rfl) ?_
  obtain ⟨i1, xi1, h⟩ := gd_step (by decide) h
  refine r_bald hx hb hS (hS.1.RA hS.1.1.2.2.2.1.2.2.2.2.2.2.2.2.2.2) i1 xi1 dJ31_digit_4 ?_
  obtain ⟨v2, ev2, h⟩ := lti_step h
  refine r_nmI ev2 ?_
  refine lv_istore_n (lv' := [(3, .int v2), (0, .ref x0), (1, .int x1), (2, .int x2)]) hx hb dJ31_digit_5 rfl hl (by decide) rfl (fun ls hl => ?_)
  refine lv_iload_n hx hb dJ31_digit_6 rfl (lv_at hl 0 rfl) ?_
  refine lv_if_lt (tgt := 30) hx hb dJ31_digit_7 (by decide) (fun c3 => ?_) (fun c3 => ?_)
  · have h := it_pos h c3
    refine lv_iconst (v := (-1)) hx hb dJ31_digit_30 (by decide) ?_
    obtain rfl := Option.some.inj h
    rw [eQ]
    exact p_iret hx hb hr hlk dJ31_digit_31 rfl
  · have h := it_neg h c3
    refine lv_iload_n hx hb dJ31_digit_10 rfl (lv_at hl 0 rfl) ?_
    refine lv_iload_n hx hb dJ31_digit_11 rfl (lv_at hl 3 rfl) ?_
    refine lv_icmp_ge (tgt := 30) hx hb dJ31_digit_12 (by decide) (fun c4 => ?_) (fun c4 => ?_)
    · have h := it_pos h c4
      refine lv_iconst (v := (-1)) hx hb dJ31_digit_30 (by decide) ?_
      obtain rfl := Option.some.inj h
      rw [eQ]
      exact p_iret hx hb hr hlk dJ31_digit_31 rfl
    · have h := it_neg h c4
      refine lv_iload_n hx hb dJ31_digit_15 rfl (lv_at hl 3 rfl) ?_
      refine lv_iconst (v := 2) hx hb dJ31_digit_16 (by decide) ?_
      refine lv_icmp_lt (tgt := 30) hx hb dJ31_digit_17 (by decide) (fun c5 => ?_) (fun c5 => ?_)
      · have h := it_pos h c5
        refine lv_iconst (v := (-1)) hx hb dJ31_digit_30 (by decide) ?_
        obtain rfl := Option.some.inj h
        rw [eQ]
        exact p_iret hx hb hr hlk dJ31_digit_31 rfl
      · have h := it_neg h c5
        refine lv_iload_n hx hb dJ31_digit_20 rfl (lv_at hl 3 rfl) ?_
        refine lv_bipush (v := 36) hx hb dJ31_digit_21 (by decide) ?_
        refine lv_icmp_gt (tgt := 30) hx hb dJ31_digit_23 (by decide) (fun c6 => ?_) (fun c6 => ?_)
        · have h := it_pos h c6
          refine lv_iconst (v := (-1)) hx hb dJ31_digit_30 (by decide) ?_
          obtain rfl := Option.some.inj h
          rw [eQ]
          exact p_iret hx hb hr hlk dJ31_digit_31 rfl
        · have h := it_neg h c6
          refine lv_iload_n hx hb dJ31_digit_26 rfl (lv_at hl 0 rfl) ?_
          refine lv_goto (tgt := 31) hx hb dJ31_digit_27 (by decide) ?_
          obtain rfl := Option.some.inj h
          rw [eQ]
          exact p_iret hx hb hr hlk dJ31_digit_31 rfl

abbrev R_J30_of : Room := { frames := 0, cells := 0, slots := 0, locals := 0 }
noncomputable def f_J30_of (x0 : Int32) : Option (Unit) :=
  lti (((x0 : Int32).toUInt32 >>> ((8 : Int32).toUInt32 &&& Int32.toUInt32 31)).toInt32) fun v1 =>
  (if v1 = 0 then
    some ()
  else
    none
  )
theorem hd_J30_of : Hd yJ30_of 1 := by unfold Hd; decide +kernel
set_option maxHeartbeats 4000000 in
set_option maxRecDepth 100000 in
theorem m_J30_of {l : Launch} {D : DD}   (x0 : Int32) (r : Unit) (h : f_J30_of x0 = some r) : MP l D yJ30_of cJ30_of 1 (some (.object "java/lang/CharacterData")) 0 0 [.int x0] NoPre (some (.ref (dN D 12))) := by
  refine MP.start (by decide +kernel) (Nat.le_of_ble_eq_true rfl) ?_
  intro p e s m below meth c ls hC hS hp hl
  obtain ⟨hx, hb, hr, hlk, hml, hown, hts, hnm⟩ := id hC
  have hl : lv_has ls 1 [(0, .int x0)] := hl
  unfold f_J30_of at h
  have hS0 := hS
  obtain ⟨A, eA⟩ : ∃ A : Array Value, A = [.int x0].toArray := ⟨_, rfl⟩
  rw [← eA] at hC hts ⊢
  obtain ⟨Q, eQ⟩ : ∃ Q : State → Prop, Q = MQ below (PQ (some (.ref (dN D 12)))) A s 0 0 (fun _ => False) := ⟨_, rfl⟩
  show W p l e R_J30_of s m A below meth c s.heap [] 0 0 _ _
  rw [← eQ]
  refine lv_iload_n hx hb dJ30_of_0 rfl (lv_at hl 0 rfl) ?_
  refine lv_bipush (v := 8) hx hb dJ30_of_1 (by decide) ?_
  obtain ⟨v1, ev1, h⟩ := lti_step h
  refine r_iushr hx hb ev1 dJ30_of_3 ?_
  refine lv_if_ne (tgt := 11) hx hb dJ30_of_4 (by decide) (fun c2 => ?_) (fun c2 => ?_)
  · have h := it_neg h c2
    cases h
  · have h := it_pos h c2
    refine r_gets hx hb hts hown hS 18 rfl q1179 dJ30_of_7 ?_
    obtain rfl := Option.some.inj h
    rw [eQ]
    exact p_aret hx hb hr (Or.inl ⟨_, rfl⟩) hlk dJ30_of_10 rfl

abbrev R_J28_digit_2 : Room := { frames := 1, cells := 0, slots := 0, locals := 23 }
noncomputable def f_J28_digit_2 (x0 : Int32) (x1 : Int32) : Option (Int32) :=
  Option.bind (f_J30_of x0) fun o1 =>
  Option.bind (f_J31_digit x0 x1) fun o2 =>
  some o2
theorem hd_J28_digit_2 : Hd yJ28_digit_2 2 := by unfold Hd; decide +kernel
set_option maxHeartbeats 4000000 in
set_option maxRecDepth 100000 in
theorem m_J28_digit_2 {l : Launch} {D : DD}   (x0 : Int32) (x1 : Int32) (r : Int32) (h : f_J28_digit_2 x0 x1 = some r) : MP l D yJ28_digit_2 cJ28_digit_2 2 (some .int) 1 23 [.int x0, .int x1] NoPre (some (.int r)) := by
  refine MP.start (by decide +kernel) (Nat.le_of_ble_eq_true rfl) ?_
  intro p e s m below meth c ls hC hS hp hl
  obtain ⟨hx, hb, hr, hlk, hml, hown, hts, hnm⟩ := id hC
  have hl : lv_has ls 2 [(0, .int x0), (1, .int x1)] := hl
  unfold f_J28_digit_2 at h
  have hS0 := hS
  obtain ⟨A, eA⟩ : ∃ A : Array Value, A = [.int x0, .int x1].toArray := ⟨_, rfl⟩
  rw [← eA] at hC hts ⊢
  obtain ⟨Q, eQ⟩ : ∃ Q : State → Prop, Q = MQ below (PQ (some (.int r))) A s 0 0 (fun _ => False) := ⟨_, rfl⟩
  show W p l e R_J28_digit_2 s m A below meth c s.heap [] 0 0 _ _
  rw [← eQ]
  refine lv_iload_n hx hb dJ28_digit_2_0 rfl (lv_at hl 0 rfl) ?_
  obtain ⟨o1, eo1, h⟩ := bind_step h
  refine r_cp (r_runS (rest := []) (As := [.int x0]) hC 1 (m_J30_of   x0 o1 eo1) q1176 q1177 q72 q1178 hd_J30_of rfl ⟨Nat.le_of_ble_eq_true rfl, Nat.le_of_ble_eq_true rfl⟩ hS trivial hl.1 rfl (Nat.le_of_ble_eq_true rfl) dJ28_digit_2_1 ⟨Nat.le_of_ble_eq_true rfl, Nat.le_of_ble_eq_true rfl⟩) ?_
  refine lv_iload_n hx hb dJ28_digit_2_4 rfl (lv_at hl 0 rfl) ?_
  refine lv_iload_n hx hb dJ28_digit_2_5 rfl (lv_at hl 1 rfl) ?_
  obtain ⟨o2, eo2, h⟩ := bind_step h
  refine r_cp (r_runA (rest := []) (As := [.int x0, .int x1]) hC 2 (m_J31_digit (dN D 12)  x0 x1 o2 eo2) q1181 q1183 q1182 q1184 q1185 q73 q1186 (recv12 hS) ⟨by decide, by decide, by decide +kernel⟩  rfl ⟨Nat.le_of_ble_eq_true rfl, Nat.le_of_ble_eq_true rfl⟩ hS trivial hl.1 rfl (Nat.le_of_ble_eq_true rfl) dJ28_digit_2_6 ⟨Nat.le_of_ble_eq_true rfl, Nat.le_of_ble_eq_true rfl⟩) ?_
  obtain rfl := Option.some.inj h
  rw [eQ]
  exact p_iret hx hb hr hlk dJ28_digit_2_9 rfl

abbrev R_J28_digit : Room := { frames := 2, cells := 0, slots := 0, locals := 44 }
noncomputable def f_J28_digit (x0 : Int32) (x1 : Int32) : Option (Int32) :=
  Option.bind (f_J28_digit_2 x0 x1) fun o1 =>
  some o1
theorem hd_J28_digit : Hd yJ28_digit 2 := by unfold Hd; decide +kernel
set_option maxHeartbeats 4000000 in
set_option maxRecDepth 100000 in
theorem m_J28_digit {l : Launch} {D : DD}   (x0 : Int32) (x1 : Int32) (r : Int32) (h : f_J28_digit x0 x1 = some r) : MP l D yJ28_digit cJ28_digit 2 (some .int) 2 44 [.int x0, .int x1] NoPre (some (.int r)) := by
  refine MP.start (by decide +kernel) (Nat.le_of_ble_eq_true rfl) ?_
  intro p e s m below meth c ls hC hS hp hl
  obtain ⟨hx, hb, hr, hlk, hml, hown, hts, hnm⟩ := id hC
  have hl : lv_has ls 2 [(0, .int x0), (1, .int x1)] := hl
  unfold f_J28_digit at h
  have hS0 := hS
  obtain ⟨A, eA⟩ : ∃ A : Array Value, A = [.int x0, .int x1].toArray := ⟨_, rfl⟩
  rw [← eA] at hC hts ⊢
  obtain ⟨Q, eQ⟩ : ∃ Q : State → Prop, Q = MQ below (PQ (some (.int r))) A s 0 0 (fun _ => False) := ⟨_, rfl⟩
  show W p l e R_J28_digit s m A below meth c s.heap [] 0 0 _ _
  rw [← eQ]
  refine lv_iload_n hx hb dJ28_digit_0 rfl (lv_at hl 0 rfl) ?_
  refine lv_iload_n hx hb dJ28_digit_1 rfl (lv_at hl 1 rfl) ?_
  obtain ⟨o1, eo1, h⟩ := bind_step h
  refine r_cp (r_runS (rest := []) (As := [.int x0, .int x1]) hC 2 (m_J28_digit_2   x0 x1 o1 eo1) q1173 q1174 q70 q1175 hd_J28_digit_2 rfl ⟨Nat.le_of_ble_eq_true rfl, Nat.le_of_ble_eq_true rfl⟩ hS trivial hl.1 rfl (Nat.le_of_ble_eq_true rfl) dJ28_digit_2 ⟨Nat.le_of_ble_eq_true rfl, Nat.le_of_ble_eq_true rfl⟩) ?_
  obtain rfl := Option.some.inj h
  rw [eQ]
  exact p_iret hx hb hr hlk dJ28_digit_5 rfl

abbrev R_J27_parseLong_2 : Room := { frames := 4, cells := 0, slots := 0, locals := 85 }
noncomputable def f_J27_parseLong_2 (x0r0n : Nat) (x0r0c : Nat → Int32) : Option (Int64) :=
  Option.bind (f_J5_length x0r0n x0r0c) fun o3 =>
  (if o3 ≤ 0 then
    none
  else
    Option.bind (f_J5_charAt x0r0n x0r0c 0) fun o5 =>
    lt (fun (v6 : Bool) (v7 : Int32) (v8 : Int64) =>
    ltl ((10 : Int32).toInt64) fun v10 =>
    ask (!((v10 : Int64) == 0)) <|
    ltl (v8 / v10) fun v12 =>
    lt (fun (v13 : Int32) (v14 : Int64) =>
    (show Option (Sum (Int32 × Int64) (Int64)) from (
    (if o3 ≤ v13 then
      some (.inr v14)
    else
      lti (v13 + 1) fun v35 =>
      Option.bind (f_J5_charAt x0r0n x0r0c v13) fun o36 =>
      Option.bind (f_J28_digit o36 10) fun o37 =>
      (if o37 < 0 then
        none
      else
        lti (lg_cmp v14 v12) fun v39 =>
        (if 0 ≤ v39 then
          ltl ((10 : Int32).toInt64) fun v41 =>
          ltl ((v14 * v41 : Int64)) fun v42 =>
          ltl (o37.toInt64) fun v43 =>
          ltl ((v8 + v43 : Int64)) fun v44 =>
          lti (lg_cmp v42 v44) fun v45 =>
          (if 0 ≤ v45 then
            ltl (o37.toInt64) fun v47 =>
            ltl ((v42 - v47 : Int64)) fun v48 =>
            some (.inl (v35, v48))
          else
            none
          )
        else
          none
        )
      )
    )
    ))
    ) fun F31 =>
    Option.bind (lp 31 (fun x => F31 x.1 x.2) (v7, 0)) fun w32 =>
    (if v6 = true then
      some w32
    else
      ltl (-w32) fun v50 =>
      some v50
    )
    ) fun K9 =>
    (if 48 ≤ o5 then
      K9 false 0 (-9223372036854775807)
    else
      lt (fun (v52 : Bool) (v53 : Int64) =>
      (if o3 = 1 then
        none
      else
        lti (0 + 1) fun v56 =>
        K9 v52 v56 v53
      )
      ) fun K54 =>
      (if o5 = 45 then
        K54 true (-9223372036854775808)
      else
        (if o5 = 43 then
          K54 false (-9223372036854775807)
        else
          none
        )
      )
    )
  )
theorem hd_J27_parseLong_2 : Hd yJ27_parseLong_2 2 := by unfold Hd; decide +kernel
set_option maxHeartbeats 4000000 in
set_option maxRecDepth 100000 in
theorem m_J27_parseLong_2 {l : Launch} {D : DD} (x0 : Nat) (x0r0 : Nat) (x0e2 : Int32) (x0e3 : Int32) (x0r0n : Nat) (x0r0c : Nat → Int32) (r : Int64) (h : f_J27_parseLong_2 x0r0n x0r0c = some r) : MP l D yJ27_parseLong_2 cJ27_parseLong_2 13 (some .long) 4 85 [.ref x0, .int 10] (fun H => OA D 3 x0 [.ref x0r0, .int 0, .int x0e2, .int x0e3] H ∧ aB D x0r0 x0r0n x0r0c H ∧ x0r0n ≤ 1000000) (some (.long r)) := by
  refine MP.start (by decide +kernel) (Nat.le_of_ble_eq_true rfl) ?_
  intro p e s m below meth c ls hC hS hp hl
  obtain ⟨h_x0, h_x0r0, l_x0r0⟩ := hp
  obtain ⟨hx, hb, hr, hlk, hml, hown, hts, hnm⟩ := id hC
  have hl : lv_has ls 13 [(0, .ref x0), (1, .int 10)] := hl
  unfold f_J27_parseLong_2 at h
  have hS0 := hS
  obtain ⟨A, eA⟩ : ∃ A : Array Value, A = [.ref x0, .int 10].toArray := ⟨_, rfl⟩
  rw [← eA] at hC hts ⊢
  obtain ⟨Q, eQ⟩ : ∃ Q : State → Prop, Q = MQ below (PQ (some (.long r))) A s 0 0 (fun _ => False) := ⟨_, rfl⟩
  show W p l e R_J27_parseLong_2 s m A below meth c s.heap [] 0 0 _ _
  rw [← eQ]
  refine lv_aload_n hx hb dJ27_parseLong_2_0 rfl (lv_at hl 0 rfl) ?_
  refine lv_ifnonnull (tgt := 14) hx hb dJ27_parseLong_2_1 (by decide) ?_
  refine lv_iload_n hx hb dJ27_parseLong_2_14 rfl (lv_at hl 1 rfl) ?_
  refine lv_iconst (v := 2) hx hb dJ27_parseLong_2_15 (by decide) ?_
  refine lv_icmp_ge (tgt := 51) hx hb dJ27_parseLong_2_16 (by decide) (fun c1 => ?_) (fun c1 => ?_)
  rotate_left
  · exact absurd c1 (by decide)
  refine lv_iload_n hx hb dJ27_parseLong_2_51 rfl (lv_at hl 1 rfl) ?_
  refine lv_bipush (v := 36) hx hb dJ27_parseLong_2_52 (by decide) ?_
  refine lv_icmp_le (tgt := 89) hx hb dJ27_parseLong_2_54 (by decide) (fun c2 => ?_) (fun c2 => ?_)
  rotate_left
  · exact absurd c2 (by decide)
  refine lv_iconst (v := 0) hx hb dJ27_parseLong_2_89 (by decide) ?_
  refine lv_istore_n (lv' := [(2, .int 0), (0, .ref x0), (1, .int 10)]) hx hb dJ27_parseLong_2_90 rfl hl (by decide) rfl (fun ls hl => ?_)
  refine lv_iconst (v := 0) hx hb dJ27_parseLong_2_91 (by decide) ?_
  refine lv_istore_n (lv' := [(3, .int 0), (2, .int 0), (0, .ref x0), (1, .int 10)]) hx hb dJ27_parseLong_2_92 rfl hl (by decide) rfl (fun ls hl => ?_)
  refine lv_aload_n hx hb dJ27_parseLong_2_93 rfl (lv_at hl 2 rfl) ?_
  obtain ⟨o3, eo3, h⟩ := bind_step h
  refine r_cp (r_runV (rest := []) (As := []) hC 0 (m_J5_length x0 x0r0 x0e2 x0e3 x0r0n x0r0c o3 eo3) q1142 q632 q633 q45 q634 (OA.recv hS h_x0 (C := RJ5) rfl) hd_J5_length rfl ⟨Nat.le_of_ble_eq_true rfl, Nat.le_of_ble_eq_true rfl⟩ hS ⟨h_x0, h_x0r0, l_x0r0⟩ hl.1 rfl (Nat.le_of_ble_eq_true rfl) dJ27_parseLong_2_94 ⟨Nat.le_of_ble_eq_true rfl, Nat.le_of_ble_eq_true rfl⟩) ?_
  refine lv_istore (lv' := [(4, .int o3), (3, .int 0), (2, .int 0), (0, .ref x0), (1, .int 10)]) hx hb dJ27_parseLong_2_97 hl (by decide) rfl (fun ls hl => ?_)
  refine lv_ldc2 hx hb (v := (-9223372036854775807)) hown (hts _ q1143) dJ27_parseLong_2_99 ?_
  refine lv_lstore (lv' := [(5, .long (-9223372036854775807)), (4, .int o3), (3, .int 0), (2, .int 0), (0, .ref x0), (1, .int 10)]) hx hb dJ27_parseLong_2_102 hl (by decide) rfl (fun ls hl => ?_)
  refine lv_iload hx hb dJ27_parseLong_2_104 (lv_at hl 1 rfl) ?_
  refine lv_if_le (tgt := 266) hx hb dJ27_parseLong_2_106 (by decide) (fun c4 => ?_) (fun c4 => ?_)
  · have h := it_pos h c4
    cases h
  · have h := it_neg h c4
    refine lv_aload_n hx hb dJ27_parseLong_2_109 rfl (lv_at hl 4 rfl) ?_
    refine lv_iconst (v := 0) hx hb dJ27_parseLong_2_110 (by decide) ?_
    obtain ⟨o5, eo5, h⟩ := bind_step h
    refine r_cp (r_runV (rest := []) (As := [.int 0]) hC 1 (m_J5_charAt x0 x0r0 x0e2 x0e3 x0r0n x0r0c 0 o5 eo5) q1144 q1145 q1146 q45 q1147 (OA.recv hS h_x0 (C := RJ5) rfl) hd_J5_charAt rfl ⟨Nat.le_of_ble_eq_true rfl, Nat.le_of_ble_eq_true rfl⟩ hS ⟨h_x0, h_x0r0, l_x0r0⟩ hl.1 rfl (Nat.le_of_ble_eq_true rfl) dJ27_parseLong_2_111 ⟨Nat.le_of_ble_eq_true rfl, Nat.le_of_ble_eq_true rfl⟩) ?_
    refine lv_istore (lv' := [(7, .int o5), (5, .long (-9223372036854775807)), (4, .int o3), (3, .int 0), (2, .int 0), (0, .ref x0), (1, .int 10)]) hx hb dJ27_parseLong_2_114 hl (by decide) rfl (fun ls hl => ?_)
    refine lv_iload hx hb dJ27_parseLong_2_116 (lv_at hl 0 rfl) ?_
    refine lv_bipush (v := 48) hx hb dJ27_parseLong_2_118 (by decide) ?_
    obtain ⟨K9, eK9, h⟩ := lt_step h
    have HK9 : ∀ (v6 : Bool) (v7 : Int32) (v8 : Int64) (h : K9 v6 v7 v8 = some r)  (ls : Array Slot) (hl : lv_has ls 13 [(0, .ref x0), (1, .int 10), (2, .int (bI v6)), (3, .int v7), (4, .int o3), (5, .long v8)]), W p l e R_J27_parseLong_2 s m A below meth c s.heap [] 0 0 Q (F0 m 168 ls []) := by
      intro v6 v7 v8 h  ls hl
      subst eK9
      refine lv_lload hx hb dJ27_parseLong_2_168 (lv_at hl 5 rfl) ?_
      refine lv_iload_n hx hb dJ27_parseLong_2_170 rfl (lv_at hl 1 rfl) ?_
      obtain ⟨v10, ev10, h⟩ := ltl_step h
      refine r_i2l hx hb ev10 dJ27_parseLong_2_171 ?_
      obtain ⟨b11, h⟩ := ask_step h
      obtain ⟨v12, ev12, h⟩ := ltl_step h
      refine r_ldiv hx hb ev12 (ask_neL b11) dJ27_parseLong_2_172 ?_
      refine lv_lstore (lv' := [(8, .long v12), (0, .ref x0), (1, .int 10), (2, .int (bI v6)), (3, .int v7), (4, .int o3), (5, .long v8)]) hx hb dJ27_parseLong_2_173 hl (by decide) rfl (fun ls hl => ?_)
      refine lv_lconst (v := 0) hx hb dJ27_parseLong_2_175 rfl ?_
      refine lv_lstore (lv' := [(10, .long 0), (8, .long v12), (0, .ref x0), (1, .int 10), (2, .int (bI v6)), (3, .int v7), (4, .int o3), (5, .long v8)]) hx hb dJ27_parseLong_2_176 hl (by decide) rfl (fun ls hl => ?_)
      obtain ⟨F31, eF31, h⟩ := lt_step h
      obtain ⟨w32, ew32, h⟩ := bind_step h
      have HL : ∀ (n : Nat) (v13 : Int32) (v14 : Int64) (w32 : Int64) (hk0 : lp n (fun x => F31 x.1 x.2) (v13, v14) = some w32)   (ls : Array Slot) (hl : lv_has ls 13 [(0, .ref x0), (1, .int 10), (2, .int (bI v6)), (3, .int v13), (4, .int o3), (5, .long v8), (8, .long v12), (10, .long v14)]) (K253 : ∀  (ls : Array Slot) (hl : lv_has ls 13 [(2, .int (bI v6)), (10, .long w32)]), W p l e R_J27_parseLong_2 s m A below meth c s.heap [] 0 0 Q (F0 m 253 ls [])), W p l e R_J27_parseLong_2 s m A below meth c s.heap [] 0 0 Q (F0 m 178 ls []) := by
        intro n
        induction n with
        | zero => intro v13 v14 w32 hk0   ls hl K253; exact lp_zero hk0
        | succ n ih =>
          intro v13 v14 w32 hk0   ls hl K253
          obtain ⟨z33, hz, hk⟩ := lp_step hk0
          have h := (congrFun (congrFun (eF31) v13) v14).symm.trans hz
          refine lv_iload_n hx hb dJ27_parseLong_2_178 rfl (lv_at hl 3 rfl) ?_
          refine lv_iload hx hb dJ27_parseLong_2_179 (lv_at hl 4 rfl) ?_
          refine lv_icmp_ge (tgt := 253) hx hb dJ27_parseLong_2_181 (by decide) (fun c34 => ?_) (fun c34 => ?_)
          · have h := it_pos h c34
            obtain rfl := Option.some.inj h
            obtain rfl := id hk
            exact K253  ls (lv_sub hl [2, 7] rfl)
          · have h := it_neg h c34
            refine lv_aload_n hx hb dJ27_parseLong_2_184 rfl (lv_at hl 0 rfl) ?_
            refine lv_iload_n hx hb dJ27_parseLong_2_185 rfl (lv_at hl 3 rfl) ?_
            obtain ⟨v35, ev35, h⟩ := lti_step h
            refine lv_iinc (v := v35) (lv' := [(3, .int v35), (0, .ref x0), (1, .int 10), (2, .int (bI v6)), (4, .int o3), (5, .long v8), (8, .long v12), (10, .long v14)]) hx hb dJ27_parseLong_2_186 hl (k := 3) rfl (by rw [ev35]; rfl) (by decide) rfl (fun ls hl => ?_)
            obtain ⟨o36, eo36, h⟩ := bind_step h
            refine r_cp (r_runV (rest := []) (As := [.int v13]) hC 1 (m_J5_charAt x0 x0r0 x0e2 x0e3 x0r0n x0r0c v13 o36 eo36) q1144 q1145 q1146 q45 q1147 (OA.recv hS h_x0 (C := RJ5) rfl) hd_J5_charAt rfl ⟨Nat.le_of_ble_eq_true rfl, Nat.le_of_ble_eq_true rfl⟩ hS ⟨h_x0, h_x0r0, l_x0r0⟩ hl.1 rfl (Nat.le_of_ble_eq_true rfl) dJ27_parseLong_2_189 ⟨Nat.le_of_ble_eq_true rfl, Nat.le_of_ble_eq_true rfl⟩) ?_
            refine lv_iload_n hx hb dJ27_parseLong_2_192 rfl (lv_at hl 2 rfl) ?_
            obtain ⟨o37, eo37, h⟩ := bind_step h
            refine r_cp (r_runS (rest := []) (As := [.int o36, .int 10]) hC 2 (m_J28_digit   o36 10 o37 eo37) q1170 q1171 q70 q1172 hd_J28_digit rfl ⟨Nat.le_of_ble_eq_true rfl, Nat.le_of_ble_eq_true rfl⟩ hS trivial hl.1 rfl (Nat.le_of_ble_eq_true rfl) dJ27_parseLong_2_193 ⟨Nat.le_of_ble_eq_true rfl, Nat.le_of_ble_eq_true rfl⟩) ?_
            refine lv_istore (lv' := [(12, .int o37), (3, .int v35), (0, .ref x0), (1, .int 10), (2, .int (bI v6)), (4, .int o3), (5, .long v8), (8, .long v12), (10, .long v14)]) hx hb dJ27_parseLong_2_196 hl (by decide) rfl (fun ls hl => ?_)
            refine lv_iload hx hb dJ27_parseLong_2_198 (lv_at hl 0 rfl) ?_
            refine lv_if_lt (tgt := 211) hx hb dJ27_parseLong_2_200 (by decide) (fun c38 => ?_) (fun c38 => ?_)
            · have h := it_pos h c38
              cases h
            · have h := it_neg h c38
              refine lv_lload hx hb dJ27_parseLong_2_203 (lv_at hl 8 rfl) ?_
              refine lv_lload hx hb dJ27_parseLong_2_205 (lv_at hl 7 rfl) ?_
              obtain ⟨v39, ev39, h⟩ := lti_step h
              refine r_lcmp hx hb ev39 dJ27_parseLong_2_207 ?_
              refine lv_if_ge (tgt := 217) hx hb dJ27_parseLong_2_208 (by decide) (fun c40 => ?_) (fun c40 => ?_)
              · have h := it_pos h c40
                refine lv_lload hx hb dJ27_parseLong_2_217 (lv_at hl 8 rfl) ?_
                refine lv_iload_n hx hb dJ27_parseLong_2_219 rfl (lv_at hl 3 rfl) ?_
                obtain ⟨v41, ev41, h⟩ := ltl_step h
                refine r_i2l hx hb ev41 dJ27_parseLong_2_220 ?_
                obtain ⟨v42, ev42, h⟩ := ltl_step h
                refine r_lmul hx hb ev42 dJ27_parseLong_2_221 ?_
                refine lv_lstore (lv' := [(10, .long v42), (12, .int o37), (3, .int v35), (0, .ref x0), (1, .int 10), (2, .int (bI v6)), (4, .int o3), (5, .long v8), (8, .long v12)]) hx hb dJ27_parseLong_2_222 hl (by decide) rfl (fun ls hl => ?_)
                refine lv_lload hx hb dJ27_parseLong_2_224 (lv_at hl 0 rfl) ?_
                refine lv_lload hx hb dJ27_parseLong_2_226 (lv_at hl 7 rfl) ?_
                refine lv_iload hx hb dJ27_parseLong_2_228 (lv_at hl 1 rfl) ?_
                obtain ⟨v43, ev43, h⟩ := ltl_step h
                refine r_i2l hx hb ev43 dJ27_parseLong_2_230 ?_
                obtain ⟨v44, ev44, h⟩ := ltl_step h
                refine r_ladd hx hb ev44 dJ27_parseLong_2_231 ?_
                obtain ⟨v45, ev45, h⟩ := lti_step h
                refine r_lcmp hx hb ev45 dJ27_parseLong_2_232 ?_
                refine lv_if_ge (tgt := 242) hx hb dJ27_parseLong_2_233 (by decide) (fun c46 => ?_) (fun c46 => ?_)
                · have h := it_pos h c46
                  refine lv_lload hx hb dJ27_parseLong_2_242 (lv_at hl 0 rfl) ?_
                  refine lv_iload hx hb dJ27_parseLong_2_244 (lv_at hl 1 rfl) ?_
                  obtain ⟨v47, ev47, h⟩ := ltl_step h
                  refine r_i2l hx hb ev47 dJ27_parseLong_2_246 ?_
                  obtain ⟨v48, ev48, h⟩ := ltl_step h
                  refine r_lsub hx hb ev48 dJ27_parseLong_2_247 ?_
                  refine lv_lstore (lv' := [(10, .long v48), (12, .int o37), (3, .int v35), (0, .ref x0), (1, .int 10), (2, .int (bI v6)), (4, .int o3), (5, .long v8), (8, .long v12)]) hx hb dJ27_parseLong_2_248 hl (by decide) rfl (fun ls hl => ?_)
                  refine lv_goto (tgt := 178) hx hb dJ27_parseLong_2_250 (by decide) ?_
                  obtain rfl := Option.some.inj h
                  exact ih v35 v48 w32 hk   ls (lv_sub hl [3, 4, 5, 2, 6, 7, 8, 0] rfl) K253
                · have h := it_neg h c46
                  cases h
              · have h := it_neg h c40
                cases h
      clear eF31
      refine HL 31 v7 0 w32 ew32   ls (lv_sub hl [2, 3, 4, 5, 6, 7, 1, 0] rfl) (fun   ls hl => ?_)
      refine lv_iload_n hx hb dJ27_parseLong_2_253 rfl (lv_at hl 0 rfl) ?_
      refine r_ifz_eq (tgt := 262) hx hb dJ27_parseLong_2_254 (by decide) (fun c49 => ?_) (fun c49 => ?_)
      · have h := it_neg h (by rw [c49]; decide)
        refine lv_lload hx hb dJ27_parseLong_2_262 (lv_at hl 1 rfl) ?_
        obtain ⟨v50, ev50, h⟩ := ltl_step h
        refine r_lneg hx hb ev50 dJ27_parseLong_2_264 ?_
        obtain rfl := Option.some.inj h
        rw [eQ]
        exact p_lret hx hb hr hlk dJ27_parseLong_2_265 rfl
      · have h := it_pos h (by rw [c49])
        refine lv_lload hx hb dJ27_parseLong_2_257 (lv_at hl 1 rfl) ?_
        refine lv_goto (tgt := 265) hx hb dJ27_parseLong_2_259 (by decide) ?_
        obtain rfl := Option.some.inj h
        rw [eQ]
        exact p_lret hx hb hr hlk dJ27_parseLong_2_265 rfl
    clear eK9
    refine lv_icmp_ge (tgt := 168) hx hb dJ27_parseLong_2_120 (by decide) (fun c51 => ?_) (fun c51 => ?_)
    · have h := it_pos h c51
      exact HK9 false 0 (-9223372036854775807) h  ls (lv_sub hl [5, 6, 4, 3, 2, 1] rfl)
    · have h := it_neg h c51
      refine lv_iload hx hb dJ27_parseLong_2_123 (lv_at hl 0 rfl) ?_
      refine lv_bipush (v := 45) hx hb dJ27_parseLong_2_125 (by decide) ?_
      obtain ⟨K54, eK54, h⟩ := lt_step h
      have HK54 : ∀ (v52 : Bool) (v53 : Int64) (h : K54 v52 v53 = some r)  (ls : Array Slot) (hl : lv_has ls 13 [(0, .ref x0), (1, .int 10), (2, .int (bI v52)), (3, .int 0), (4, .int o3), (5, .long v53)]), W p l e R_J27_parseLong_2 s m A below meth c s.heap [] 0 0 Q (F0 m 153 ls []) := by
        intro v52 v53 h  ls hl
        subst eK54
        refine lv_iload hx hb dJ27_parseLong_2_153 (lv_at hl 4 rfl) ?_
        refine lv_iconst (v := 1) hx hb dJ27_parseLong_2_155 (by decide) ?_
        refine lv_icmp_ne (tgt := 165) hx hb dJ27_parseLong_2_156 (by decide) (fun c55 => ?_) (fun c55 => ?_)
        · have h := it_neg h c55
          obtain ⟨v56, ev56, h⟩ := lti_step h
          refine lv_iinc (v := v56) (lv' := [(3, .int v56), (0, .ref x0), (1, .int 10), (2, .int (bI v52)), (4, .int o3), (5, .long v53)]) hx hb dJ27_parseLong_2_165 hl (k := 3) rfl (by rw [ev56]; rfl) (by decide) rfl (fun ls hl => ?_)
          exact HK9 v52 v56 v53 h  ls (lv_sub hl [1, 2, 3, 0, 4, 5] rfl)
        · have h := it_pos h c55
          cases h
      clear eK54
      refine lv_icmp_ne (tgt := 140) hx hb dJ27_parseLong_2_127 (by decide) (fun c57 => ?_) (fun c57 => ?_)
      · have h := it_neg h c57
        refine lv_iload hx hb dJ27_parseLong_2_140 (lv_at hl 0 rfl) ?_
        refine lv_bipush (v := 43) hx hb dJ27_parseLong_2_142 (by decide) ?_
        refine lv_icmp_eq (tgt := 153) hx hb dJ27_parseLong_2_144 (by decide) (fun c58 => ?_) (fun c58 => ?_)
        · have h := it_pos h c58
          exact HK54 false (-9223372036854775807) h  ls (lv_sub hl [5, 6, 4, 3, 2, 1] rfl)
        · have h := it_neg h c58
          cases h
      · have h := it_pos h c57
        refine lv_iconst (v := 1) hx hb dJ27_parseLong_2_130 (by decide) ?_
        refine lv_istore_n (lv' := [(2, .int 1), (7, .int o5), (5, .long (-9223372036854775807)), (4, .int o3), (3, .int 0), (0, .ref x0), (1, .int 10)]) hx hb dJ27_parseLong_2_131 rfl hl (by decide) rfl (fun ls hl => ?_)
        refine lv_ldc2 hx hb (v := (-9223372036854775808)) hown (hts _ q1155) dJ27_parseLong_2_132 ?_
        refine lv_lstore (lv' := [(5, .long (-9223372036854775808)), (2, .int 1), (7, .int o5), (4, .int o3), (3, .int 0), (0, .ref x0), (1, .int 10)]) hx hb dJ27_parseLong_2_135 hl (by decide) rfl (fun ls hl => ?_)
        refine lv_goto (tgt := 153) hx hb dJ27_parseLong_2_137 (by decide) ?_
        exact HK54 true (-9223372036854775808) h  ls (lv_sub hl [5, 6, 1, 4, 3, 0] rfl)

abbrev R_J27_parseLong : Room := { frames := 5, cells := 0, slots := 0, locals := 117 }
noncomputable def f_J27_parseLong (x0r0n : Nat) (x0r0c : Nat → Int32) : Option (Int64) :=
  Option.bind (f_J27_parseLong_2 x0r0n x0r0c) fun o1 =>
  some o1
theorem hd_J27_parseLong : Hd yJ27_parseLong 1 := by unfold Hd; decide +kernel
set_option maxHeartbeats 4000000 in
set_option maxRecDepth 100000 in
theorem m_J27_parseLong {l : Launch} {D : DD} (x0 : Nat) (x0r0 : Nat) (x0e2 : Int32) (x0e3 : Int32) (x0r0n : Nat) (x0r0c : Nat → Int32) (r : Int64) (h : f_J27_parseLong x0r0n x0r0c = some r) : MP l D yJ27_parseLong cJ27_parseLong 1 (some .long) 5 117 [.ref x0] (fun H => OA D 3 x0 [.ref x0r0, .int 0, .int x0e2, .int x0e3] H ∧ aB D x0r0 x0r0n x0r0c H ∧ x0r0n ≤ 1000000) (some (.long r)) := by
  refine MP.start (by decide +kernel) (Nat.le_of_ble_eq_true rfl) ?_
  intro p e s m below meth c ls hC hS hp hl
  obtain ⟨h_x0, h_x0r0, l_x0r0⟩ := hp
  obtain ⟨hx, hb, hr, hlk, hml, hown, hts, hnm⟩ := id hC
  have hl : lv_has ls 1 [(0, .ref x0)] := hl
  unfold f_J27_parseLong at h
  have hS0 := hS
  obtain ⟨A, eA⟩ : ∃ A : Array Value, A = [.ref x0].toArray := ⟨_, rfl⟩
  rw [← eA] at hC hts ⊢
  obtain ⟨Q, eQ⟩ : ∃ Q : State → Prop, Q = MQ below (PQ (some (.long r))) A s 0 0 (fun _ => False) := ⟨_, rfl⟩
  show W p l e R_J27_parseLong s m A below meth c s.heap [] 0 0 _ _
  rw [← eQ]
  refine lv_aload_n hx hb dJ27_parseLong_0 rfl (lv_at hl 0 rfl) ?_
  refine lv_bipush (v := 10) hx hb dJ27_parseLong_1 (by decide) ?_
  obtain ⟨o1, eo1, h⟩ := bind_step h
  refine r_cp (r_runS (rest := []) (As := [.ref x0, .int 10]) hC 2 (m_J27_parseLong_2 x0 x0r0 x0e2 x0e3 x0r0n x0r0c o1 eo1) q1113 q1114 q69 q1115 hd_J27_parseLong_2 rfl ⟨Nat.le_of_ble_eq_true rfl, Nat.le_of_ble_eq_true rfl⟩ hS ⟨h_x0, h_x0r0, l_x0r0⟩ hl.1 rfl (Nat.le_of_ble_eq_true rfl) dJ27_parseLong_3 ⟨Nat.le_of_ble_eq_true rfl, Nat.le_of_ble_eq_true rfl⟩) ?_
  obtain rfl := Option.some.inj h
  rw [eQ]
  exact p_lret hx hb hr hlk dJ27_parseLong_6 rfl

abbrev R_J24_signedHashCode : Room := { frames := 0, cells := 0, slots := 0, locals := 0 }
noncomputable def f_J24_signedHashCode (x0 : Int32) (x1n : Nat) (x1c : Nat → Int32) (x2 : Int32) (x3 : Int32) : Option (Int32) :=
  lti (x2 + x3) fun v1 =>
  lt (fun (v2 : Int32) (v3 : Int32) =>
  (show Option (Sum (Int32 × Int32) (Int32)) from (
  (if v1 ≤ v3 then
    some (.inr v2)
  else
    lti (31 * v2) fun v16 =>
    gd x1n v3 fun i17 =>
    lti (x1c i17) fun v18 =>
    lti (v18 &&& 255) fun v19 =>
    lti (v16 + v19) fun v20 =>
    lti (v3 + 1) fun v21 =>
    some (.inl (v20, v21))
  )
  ))
  ) fun F12 =>
  Option.bind (lp 41 (fun x => F12 x.1 x.2) (x0, x2)) fun w13 =>
  some w13
theorem hd_J24_signedHashCode : Hd yJ24_signedHashCode 4 := by unfold Hd; decide +kernel
set_option maxHeartbeats 4000000 in
set_option maxRecDepth 100000 in
theorem m_J24_signedHashCode {l : Launch} {D : DD} (x1 : Nat)  (x0 : Int32) (x1n : Nat) (x1c : Nat → Int32) (x2 : Int32) (x3 : Int32) (r : Int32) (h : f_J24_signedHashCode x0 x1n x1c x2 x3 = some r) : MP l D yJ24_signedHashCode cJ24_signedHashCode 6 (some .int) 0 0 [.int x0, .ref x1, .int x2, .int x3] (fun H => aB D x1 x1n x1c H ∧ x1n ≤ 1000000) (some (.int r)) := by
  refine MP.start (by decide +kernel) (Nat.le_of_ble_eq_true rfl) ?_
  intro p e s m below meth c ls hC hS hp hl
  obtain ⟨h_x1, l_x1⟩ := hp
  obtain ⟨hx, hb, hr, hlk, hml, hown, hts, hnm⟩ := id hC
  have hl : lv_has ls 6 [(0, .int x0), (1, .ref x1), (2, .int x2), (3, .int x3)] := hl
  unfold f_J24_signedHashCode at h
  have hS0 := hS
  obtain ⟨A, eA⟩ : ∃ A : Array Value, A = [.int x0, .ref x1, .int x2, .int x3].toArray := ⟨_, rfl⟩
  rw [← eA] at hC hts ⊢
  obtain ⟨Q, eQ⟩ : ∃ Q : State → Prop, Q = MQ below (PQ (some (.int r))) A s 0 0 (fun _ => False) := ⟨_, rfl⟩
  show W p l e R_J24_signedHashCode s m A below meth c s.heap [] 0 0 _ _
  rw [← eQ]
  refine lv_iload_n hx hb dJ24_signedHashCode_0 rfl (lv_at hl 2 rfl) ?_
  refine lv_iload_n hx hb dJ24_signedHashCode_1 rfl (lv_at hl 3 rfl) ?_
  obtain ⟨v1, ev1, h⟩ := lti_step h
  refine r_iadd hx hb ev1 dJ24_signedHashCode_2 ?_
  refine lv_istore (lv' := [(4, .int v1), (0, .int x0), (1, .ref x1), (2, .int x2), (3, .int x3)]) hx hb dJ24_signedHashCode_3 hl (by decide) rfl (fun ls hl => ?_)
  refine lv_iload_n hx hb dJ24_signedHashCode_5 rfl (lv_at hl 3 rfl) ?_
  refine lv_istore (lv' := [(5, .int x2), (4, .int v1), (0, .int x0), (1, .ref x1), (2, .int x2), (3, .int x3)]) hx hb dJ24_signedHashCode_6 hl (by decide) rfl (fun ls hl => ?_)
  obtain ⟨F12, eF12, h⟩ := lt_step h
  obtain ⟨w13, ew13, h⟩ := bind_step h
  have HL : ∀ (n : Nat) (v2 : Int32) (v3 : Int32) (w13 : Int32) (hk0 : lp n (fun x => F12 x.1 x.2) (v2, v3) = some w13)   (ls : Array Slot) (hl : lv_has ls 6 [(0, .int v2), (1, .ref x1), (4, .int v1), (5, .int v3)]) (K35 : ∀  (ls : Array Slot) (hl : lv_has ls 6 [(0, .int w13)]), W p l e R_J24_signedHashCode s m A below meth c s.heap [] 0 0 Q (F0 m 35 ls [])), W p l e R_J24_signedHashCode s m A below meth c s.heap [] 0 0 Q (F0 m 8 ls []) := by
    intro n
    induction n with
    | zero => intro v2 v3 w13 hk0   ls hl K35; exact lp_zero hk0
    | succ n ih =>
      intro v2 v3 w13 hk0   ls hl K35
      obtain ⟨z14, hz, hk⟩ := lp_step hk0
      have h := (congrFun (congrFun (eF12) v2) v3).symm.trans hz
      refine lv_iload hx hb dJ24_signedHashCode_8 (lv_at hl 3 rfl) ?_
      refine lv_iload hx hb dJ24_signedHashCode_10 (lv_at hl 2 rfl) ?_
      refine lv_icmp_ge (tgt := 35) hx hb dJ24_signedHashCode_12 (by decide) (fun c15 => ?_) (fun c15 => ?_)
      · have h := it_pos h c15
        obtain rfl := Option.some.inj h
        obtain rfl := id hk
        exact K35  ls (lv_sub hl [0] rfl)
      · have h := it_neg h c15
        refine lv_bipush (v := 31) hx hb dJ24_signedHashCode_15 (by decide) ?_
        refine lv_iload_n hx hb dJ24_signedHashCode_17 rfl (lv_at hl 0 rfl) ?_
        obtain ⟨v16, ev16, h⟩ := lti_step h
        refine r_imul hx hb ev16 dJ24_signedHashCode_18 ?_
        refine lv_aload_n hx hb dJ24_signedHashCode_19 rfl (lv_at hl 1 rfl) ?_
        refine lv_iload hx hb dJ24_signedHashCode_20 (lv_at hl 3 rfl) ?_
        obtain ⟨i17, xi17, h⟩ := gd_step (nl0 l_x1) h
        refine r_bald hx hb hS h_x1 i17 xi17 dJ24_signedHashCode_22 ?_
        obtain ⟨v18, ev18, h⟩ := lti_step h
        refine r_nmI ev18 ?_
        refine lv_sipush (v := 255) hx hb dJ24_signedHashCode_23 (by decide) ?_
        obtain ⟨v19, ev19, h⟩ := lti_step h
        refine r_iand hx hb ev19 dJ24_signedHashCode_26 ?_
        obtain ⟨v20, ev20, h⟩ := lti_step h
        refine r_iadd hx hb ev20 dJ24_signedHashCode_27 ?_
        refine lv_istore_n (lv' := [(0, .int v20), (1, .ref x1), (4, .int v1), (5, .int v3)]) hx hb dJ24_signedHashCode_28 rfl hl (by decide) rfl (fun ls hl => ?_)
        obtain ⟨v21, ev21, h⟩ := lti_step h
        refine lv_iinc (v := v21) (lv' := [(5, .int v21), (0, .int v20), (1, .ref x1), (4, .int v1)]) hx hb dJ24_signedHashCode_29 hl (k := 3) rfl (by rw [ev21]; rfl) (by decide) rfl (fun ls hl => ?_)
        refine lv_goto (tgt := 8) hx hb dJ24_signedHashCode_32 (by decide) ?_
        obtain rfl := Option.some.inj h
        exact ih v20 v21 w13 hk   ls (lv_sub hl [1, 2, 3, 0] rfl) K35
  clear eF12
  refine HL 41 x0 x2 w13 ew13   ls (lv_sub hl [2, 3, 1, 0] rfl) (fun   ls hl => ?_)
  refine lv_iload_n hx hb dJ24_signedHashCode_35 rfl (lv_at hl 0 rfl) ?_
  obtain rfl := Option.some.inj h
  rw [eQ]
  exact p_iret hx hb hr hlk dJ24_signedHashCode_36 rfl

abbrev R_J24_vectorizedHashCode : Room := { frames := 1, cells := 0, slots := 0, locals := 25 }
noncomputable def f_J24_vectorizedHashCode (x0n : Nat) (x0c : Nat → Int32) (x1 : Int32) (x2 : Int32) (x3 : Int32) : Option (Int32) :=
  Option.bind (f_J24_signedHashCode x3 x0n x0c x1 x2) fun o2 =>
  some o2
theorem hd_J24_vectorizedHashCode : Hd yJ24_vectorizedHashCode 5 := by unfold Hd; decide +kernel
set_option maxHeartbeats 4000000 in
set_option maxRecDepth 100000 in
theorem m_J24_vectorizedHashCode {l : Launch} {D : DD} (x0 : Nat)  (x0n : Nat) (x0c : Nat → Int32) (x1 : Int32) (x2 : Int32) (x3 : Int32) (r : Int32) (h : f_J24_vectorizedHashCode x0n x0c x1 x2 x3 = some r) : MP l D yJ24_vectorizedHashCode cJ24_vectorizedHashCode 5 (some .int) 1 25 [.ref x0, .int x1, .int x2, .int x3, .int 4] (fun H => aB D x0 x0n x0c H ∧ x0n ≤ 1000000 ∧ dB D ≤ x0) (some (.int r)) := by
  refine MP.start (by decide +kernel) (Nat.le_of_ble_eq_true rfl) ?_
  intro p e s m below meth c ls hC hS hp hl
  obtain ⟨h_x0, l_x0, hB_h_x0⟩ := hp
  obtain ⟨hx, hb, hr, hlk, hml, hown, hts, hnm⟩ := id hC
  have hl : lv_has ls 5 [(0, .ref x0), (1, .int x1), (2, .int x2), (3, .int x3), (4, .int 4)] := hl
  unfold f_J24_vectorizedHashCode at h
  have hS0 := hS
  obtain ⟨A, eA⟩ : ∃ A : Array Value, A = [.ref x0, .int x1, .int x2, .int x3, .int 4].toArray := ⟨_, rfl⟩
  rw [← eA] at hC hts ⊢
  obtain ⟨Q, eQ⟩ : ∃ Q : State → Prop, Q = MQ below (PQ (some (.int r))) A s 0 0 (fun _ => False) := ⟨_, rfl⟩
  show W p l e R_J24_vectorizedHashCode s m A below meth c s.heap [] 0 0 _ _
  rw [← eQ]
  refine lv_iload hx hb dJ24_vectorizedHashCode_0 (lv_at hl 4 rfl) ?_
  refine r_tabIn (z := 4) (off := 42) (tgt := 44) hx hb rfl dJ24_vectorizedHashCode_2 (by decide) (by decide) (by decide) (by decide) ?_
  refine lv_iload_n hx hb dJ24_vectorizedHashCode_44 rfl (lv_at hl 3 rfl) ?_
  refine lv_aload_n hx hb dJ24_vectorizedHashCode_45 rfl (lv_at hl 0 rfl) ?_
  refine r_castB hx hb hown (hts _ q1619) hS h_x0 hB_h_x0 dJ24_vectorizedHashCode_46 ?_
  refine lv_iload_n hx hb dJ24_vectorizedHashCode_49 rfl (lv_at hl 1 rfl) ?_
  refine lv_iload_n hx hb dJ24_vectorizedHashCode_50 rfl (lv_at hl 2 rfl) ?_
  obtain ⟨o2, eo2, h⟩ := bind_step h
  refine r_cp (r_runS (rest := []) (As := [.int x3, .ref x0, .int x1, .int x2]) hC 4 (m_J24_signedHashCode x0  x3 x0n x0c x1 x2 o2 eo2) q1620 q1621 q66 q1622 hd_J24_signedHashCode rfl ⟨Nat.le_of_ble_eq_true rfl, Nat.le_of_ble_eq_true rfl⟩ hS ⟨h_x0, l_x0⟩ hl.1 rfl (Nat.le_of_ble_eq_true rfl) dJ24_vectorizedHashCode_51 ⟨Nat.le_of_ble_eq_true rfl, Nat.le_of_ble_eq_true rfl⟩) ?_
  refine lv_goto (tgt := 157) hx hb dJ24_vectorizedHashCode_54 (by decide) ?_
  obtain rfl := Option.some.inj h
  rw [eQ]
  exact p_iret hx hb hr hlk dJ24_vectorizedHashCode_157 rfl

abbrev R_J25_hashCode : Room := { frames := 2, cells := 0, slots := 0, locals := 49 }
noncomputable def f_J25_hashCode (x0n : Nat) (x0c : Nat → Int32) : Option (Int32) :=
  (if (nI x0n) = 0 then
    some 0
  else
  (if (nI x0n) = 1 then
    gd x0n 0 fun i3 =>
    lti (x0c i3) fun v4 =>
    lti (v4 &&& 255) fun v5 =>
    some v5
  else
  Option.bind (f_J24_vectorizedHashCode x0n x0c 0 (nI x0n) 0) fun o6 =>
  some o6
  ))
theorem hd_J25_hashCode : Hd yJ25_hashCode 1 := by unfold Hd; decide +kernel
set_option maxHeartbeats 4000000 in
set_option maxRecDepth 100000 in
theorem m_J25_hashCode {l : Launch} {D : DD} (x0 : Nat)  (x0n : Nat) (x0c : Nat → Int32) (r : Int32) (h : f_J25_hashCode x0n x0c = some r) : MP l D yJ25_hashCode cJ25_hashCode 1 (some .int) 2 49 [.ref x0] (fun H => aB D x0 x0n x0c H ∧ x0n ≤ 1000000 ∧ dB D ≤ x0) (some (.int r)) := by
  refine MP.start (by decide +kernel) (Nat.le_of_ble_eq_true rfl) ?_
  intro p e s m below meth c ls hC hS hp hl
  obtain ⟨h_x0, l_x0, hB_h_x0⟩ := hp
  obtain ⟨hx, hb, hr, hlk, hml, hown, hts, hnm⟩ := id hC
  have hl : lv_has ls 1 [(0, .ref x0)] := hl
  unfold f_J25_hashCode at h
  have hS0 := hS
  obtain ⟨A, eA⟩ : ∃ A : Array Value, A = [.ref x0].toArray := ⟨_, rfl⟩
  rw [← eA] at hC hts ⊢
  obtain ⟨Q, eQ⟩ : ∃ Q : State → Prop, Q = MQ below (PQ (some (.int r))) A s 0 0 (fun _ => False) := ⟨_, rfl⟩
  show W p l e R_J25_hashCode s m A below meth c s.heap [] 0 0 _ _
  rw [← eQ]
  refine lv_aload_n hx hb dJ25_hashCode_0 rfl (lv_at hl 0 rfl) ?_
  refine r_alen hx hb hS h_x0 dJ25_hashCode_1 ?_
  by_cases c1 : (nI x0n) = 0
  · have h := it_pos h c1
    refine lv_lookup (off := 26) (tgt := 28) hx hb dJ25_hashCode_2 (by decide) (by rw [c1]; decide) (by decide) ?_
    refine lv_iconst (v := 0) hx hb dJ25_hashCode_28 (by decide) ?_
    refine lv_goto (tgt := 51) hx hb dJ25_hashCode_29 (by decide) ?_
    obtain rfl := Option.some.inj h
    rw [eQ]
    exact p_iret hx hb hr hlk dJ25_hashCode_51 rfl
  have h := it_neg h c1
  by_cases c2 : (nI x0n) = 1
  · have h := it_pos h c2
    refine lv_lookup (off := 30) (tgt := 32) hx hb dJ25_hashCode_2 (by decide) (by rw [c2]; decide) (by decide) ?_
    refine lv_aload_n hx hb dJ25_hashCode_32 rfl (lv_at hl 0 rfl) ?_
    refine lv_iconst (v := 0) hx hb dJ25_hashCode_33 (by decide) ?_
    obtain ⟨i3, xi3, h⟩ := gd_step (nl0 l_x0) h
    refine r_bald hx hb hS h_x0 i3 xi3 dJ25_hashCode_34 ?_
    obtain ⟨v4, ev4, h⟩ := lti_step h
    refine r_nmI ev4 ?_
    refine lv_sipush (v := 255) hx hb dJ25_hashCode_35 (by decide) ?_
    obtain ⟨v5, ev5, h⟩ := lti_step h
    refine r_iand hx hb ev5 dJ25_hashCode_38 ?_
    refine lv_goto (tgt := 51) hx hb dJ25_hashCode_39 (by decide) ?_
    obtain rfl := Option.some.inj h
    rw [eQ]
    exact p_iret hx hb hr hlk dJ25_hashCode_51 rfl
  have h := it_neg h c2
  refine lv_lookup (off := 40) (tgt := 42) hx hb dJ25_hashCode_2 (by decide) ((lv_osw (k := 0) c1 (by decide)).trans (lv_osw (k := 1) c2 (by decide))) (by decide) ?_
  refine lv_aload_n hx hb dJ25_hashCode_42 rfl (lv_at hl 0 rfl) ?_
  refine lv_iconst (v := 0) hx hb dJ25_hashCode_43 (by decide) ?_
  refine lv_aload_n hx hb dJ25_hashCode_44 rfl (lv_at hl 0 rfl) ?_
  refine r_alen hx hb hS h_x0 dJ25_hashCode_45 ?_
  refine lv_iconst (v := 0) hx hb dJ25_hashCode_46 (by decide) ?_
  refine lv_iconst (v := 4) hx hb dJ25_hashCode_47 (by decide) ?_
  obtain ⟨o6, eo6, h⟩ := bind_step h
  refine r_cp (r_runS (rest := []) (As := [.ref x0, .int 0, .int (nI x0n), .int 0, .int 4]) hC 5 (m_J24_vectorizedHashCode x0  x0n x0c 0 (nI x0n) 0 o6 eo6) q1616 q1617 q66 q1618 hd_J24_vectorizedHashCode rfl ⟨Nat.le_of_ble_eq_true rfl, Nat.le_of_ble_eq_true rfl⟩ hS ⟨h_x0, l_x0, hB_h_x0⟩ hl.1 rfl (Nat.le_of_ble_eq_true rfl) dJ25_hashCode_48 ⟨Nat.le_of_ble_eq_true rfl, Nat.le_of_ble_eq_true rfl⟩) ?_
  obtain rfl := Option.some.inj h
  rw [eQ]
  exact p_iret hx hb hr hlk dJ25_hashCode_51 rfl

abbrev R_J5_hashCode : Room := { frames := 3, cells := 0, slots := 0, locals := 69 }
noncomputable def f_J5_hashCode (x0r0n : Nat) (x0r0c : Nat → Int32) : Option (Int32 × Int32 × Int32) :=
  Option.bind (f_J5_isLatin1 x0r0n x0r0c) fun o3 =>
  (if o3 = true then
    Option.bind (f_J25_hashCode x0r0n x0r0c) fun o5 =>
    (if o5 = 0 then
      some (o5, 0, 1)
    else
      some (o5, o5, 0)
    )
  else
    none
  )
theorem hd_J5_hashCode : Hd yJ5_hashCode 0 := by unfold Hd; decide +kernel
set_option maxHeartbeats 4000000 in
set_option maxRecDepth 100000 in
theorem m_J5_hashCode {l : Launch} {D : DD} (x0 : Nat) (x0r0 : Nat)  (x0r0n : Nat) (x0r0c : Nat → Int32) (r : Int32 × Int32 × Int32) (h : f_J5_hashCode x0r0n x0r0c = some r) : MT l D yJ5_hashCode cJ5_hashCode 2 (some .int) 3 69 0 0 [.ref x0] (fun H => ON D 3 x0 [.ref x0r0, .int 0, .int 0, .int 0] H ∧ dB D ≤ x0 ∧ aB D x0r0 x0r0n x0r0c H ∧ x0r0n ≤ 1000000 ∧ dB D ≤ x0r0 ∧ x0 ≠ x0r0) (pI (fun H b H' => b = r.1 ∧ ON D 3 x0 [.ref x0r0, .int 0, .int r.2.1, .int r.2.2] H' ∧ Off (fun a => a = x0) H H')) := by
  refine MT.start (by decide +kernel) (Nat.le_of_ble_eq_true rfl) ?_
  intro p e s m below meth c ls hC hS hp hl
  obtain ⟨h_x0, hB_h_x0, h_x0r0, l_x0r0, hB_h_x0r0, ne_x0_x0r0⟩ := hp
  obtain ⟨hx, hb, hr, hlk, hml, hown, hts, hnm⟩ := id hC
  have hl : lv_has ls 2 [(0, .ref x0)] := hl
  unfold f_J5_hashCode at h
  have hS0 := hS
  obtain ⟨A, eA⟩ : ∃ A : Array Value, A = [.ref x0].toArray := ⟨_, rfl⟩
  rw [← eA] at hC hts ⊢
  obtain ⟨Q, eQ⟩ : ∃ Q : State → Prop, Q = MQ below (TQ D (pI (fun H b H' => b = r.1 ∧ ON D 3 x0 [.ref x0r0, .int 0, .int r.2.1, .int r.2.2] H' ∧ Off (fun a => a = x0) H H'))) A s 0 0 (fun q => dB D ≤ q) := ⟨_, rfl⟩
  have hF : Off (fun a => a = x0) s.heap s.heap := Off.rf
  show W p l e R_J5_hashCode s m A below meth c s.heap [] 0 0 _ _
  rw [← eQ]
  obtain ⟨H, eH⟩ : ∃ H : Heap, H = s.heap := ⟨_, rfl⟩
  obtain ⟨locs, eLc⟩ : ∃ L : List Loc, L = [] := ⟨_, rfl⟩
  have lt_h_x0 := h_x0.lt
  have lt_h_x0r0 := h_x0r0.lt
  rw [← eH, ← eLc]
  have hF : Off (fun a => a = x0) s.heap H := by rw [eH]; exact hF
  rw [← eH] at h_x0
  rw [← eH] at h_x0r0
  have hS : St D s H locs := by rw [eH, eLc]; exact hS
  refine lv_aload_n hx hb dJ5_hashCode_0 rfl (lv_at hl 0 rfl) ?_
  refine r_get hx hb hts hown hS h_x0.OA rfl in_J5 2 (by decide) q762 rfl (v := .int 0) rfl dJ5_hashCode_1 ?_
  refine lv_istore_n (lv' := [(1, .int 0), (0, .ref x0)]) hx hb dJ5_hashCode_4 rfl hl (by decide) rfl (fun ls hl => ?_)
  refine lv_iload_n hx hb dJ5_hashCode_5 rfl (lv_at hl 0 rfl) ?_
  refine lv_if_ne (tgt := 58) hx hb dJ5_hashCode_6 (by decide) (fun c1 => ?_) (fun c1 => ?_)
  · exact absurd c1 (by decide)
  refine lv_aload_n hx hb dJ5_hashCode_9 rfl (lv_at hl 1 rfl) ?_
  refine r_get hx hb hts hown hS h_x0.OA rfl in_J5 3 (by decide) q763 rfl (v := .int 0) rfl dJ5_hashCode_10 ?_
  refine lv_if_ne (tgt := 58) hx hb dJ5_hashCode_13 (by decide) (fun c2 => ?_) (fun c2 => ?_)
  · exact absurd c2 (by decide)
  refine lv_aload_n hx hb dJ5_hashCode_16 rfl (lv_at hl 1 rfl) ?_
  obtain ⟨o3, eo3, h⟩ := bind_step h
  refine r_cp (r_runV (rest := []) (As := []) hC 0 (m_J5_isLatin1 x0 x0r0 0 0 x0r0n x0r0c o3 eo3) q1040 q1041 q1042 q45 q1043 (OA.recv hS h_x0.OA (C := RJ5) rfl) hd_J5_isLatin1 rfl ⟨Nat.le_of_ble_eq_true rfl, Nat.le_of_ble_eq_true rfl⟩ hS ⟨h_x0.OA, h_x0r0, l_x0r0⟩ hl.1 rfl (Nat.le_of_ble_eq_true rfl) dJ5_hashCode_17 ⟨Nat.le_of_ble_eq_true rfl, Nat.le_of_ble_eq_true rfl⟩) ?_
  refine r_ifz_eq (tgt := 33) hx hb dJ5_hashCode_20 (by decide) (fun c4 => ?_) (fun c4 => ?_)
  · have h := it_neg h (by rw [c4]; decide)
    cases h
  · have h := it_pos h (by rw [c4])
    refine lv_aload_n hx hb dJ5_hashCode_23 rfl (lv_at hl 1 rfl) ?_
    refine r_get hx hb hts hown hS h_x0.OA rfl in_J5 0 (by decide) q760 rfl (v := .ref x0r0) rfl dJ5_hashCode_24 ?_
    obtain ⟨o5, eo5, h⟩ := bind_step h
    refine r_cp (r_runS (rest := []) (As := [.ref x0r0]) hC 1 (m_J25_hashCode x0r0  x0r0n x0r0c o5 eo5) q1613 q1614 q67 q1615 hd_J25_hashCode rfl ⟨Nat.le_of_ble_eq_true rfl, Nat.le_of_ble_eq_true rfl⟩ hS ⟨h_x0r0, l_x0r0, hB_h_x0r0⟩ hl.1 rfl (Nat.le_of_ble_eq_true rfl) dJ5_hashCode_27 ⟨Nat.le_of_ble_eq_true rfl, Nat.le_of_ble_eq_true rfl⟩) ?_
    refine lv_goto (tgt := 40) hx hb dJ5_hashCode_30 (by decide) ?_
    refine lv_istore_n (lv' := [(1, .int o5), (0, .ref x0)]) hx hb dJ5_hashCode_40 rfl hl (by decide) rfl (fun ls hl => ?_)
    refine lv_iload_n hx hb dJ5_hashCode_41 rfl (lv_at hl 0 rfl) ?_
    refine lv_if_ne (tgt := 53) hx hb dJ5_hashCode_42 (by decide) (fun c6 => ?_) (fun c6 => ?_)
    · have h := it_neg h c6
      refine lv_aload_n hx hb dJ5_hashCode_53 rfl (lv_at hl 1 rfl) ?_
      refine lv_iload_n hx hb dJ5_hashCode_54 rfl (lv_at hl 0 rfl) ?_
      refine r_put hx hb hts hown hS h_x0 hB_h_x0 rfl in_J5 tyJ5 tyJ5_ok nmJ5 2 (Nat.le_of_ble_eq_true rfl) rfl q762 rfl rfl (v := .int o5) rfl (by rfl) dJ5_hashCode_55 (fun H locs hS hO h_x0 => ?_)
      have h_x0 : ON D 3 x0 [.ref x0r0, .int 0, .int o5, .int 0] H := h_x0
      have h_x0r0 := h_x0r0.off hO (Ne.symm ne_x0_x0r0)
      have hF := hF.fresh hO (fun a ha z => z)
      refine lv_iload_n hx hb dJ5_hashCode_58 rfl (lv_at hl 0 rfl) ?_
      obtain rfl := Option.some.inj h
      rw [eQ]
      exact r_iret hx hb hr hlk hS (Nat.le_of_ble_eq_true rfl) (Nat.le_of_ble_eq_true rfl) dJ5_hashCode_59 ⟨_, rfl, rfl, h_x0, hF⟩
    · have h := it_pos h c6
      refine lv_aload_n hx hb dJ5_hashCode_45 rfl (lv_at hl 1 rfl) ?_
      refine lv_iconst (v := 1) hx hb dJ5_hashCode_46 (by decide) ?_
      refine r_put hx hb hts hown hS h_x0 hB_h_x0 rfl in_J5 tyJ5 tyJ5_ok nmJ5 3 (Nat.le_of_ble_eq_true rfl) rfl q763 rfl rfl (v := .int (bI true)) (by decide) (by rfl) dJ5_hashCode_47 (fun H locs hS hO h_x0 => ?_)
      have h_x0 : ON D 3 x0 [.ref x0r0, .int 0, .int 0, .int (bI true)] H := h_x0
      have h_x0r0 := h_x0r0.off hO (Ne.symm ne_x0_x0r0)
      have hF := hF.fresh hO (fun a ha z => z)
      refine lv_goto (tgt := 58) hx hb dJ5_hashCode_50 (by decide) ?_
      refine lv_iload_n hx hb dJ5_hashCode_58 rfl (lv_at hl 0 rfl) ?_
      obtain rfl := Option.some.inj h
      rw [eQ]
      exact r_iret hx hb hr hlk hS (Nat.le_of_ble_eq_true rfl) (Nat.le_of_ble_eq_true rfl) dJ5_hashCode_59 ⟨_, rfl, rfl, h_x0, hF⟩

