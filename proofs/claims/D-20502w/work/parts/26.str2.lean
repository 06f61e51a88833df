/-! String: length, indexOf, charAt, substring, equals: by tools/gen26.py -/
def narOKb (ty : FieldType) (v : Int32) : Bool := match narrow ty (.int v) with
  | .int w => w == v
  | _ => false
theorem narOK {ty : FieldType} {v : Int32} (h : narOKb ty v = true) : narrow ty (.int v) = .int v := by
  unfold narOKb at h
  split at h
  · next w e => rw [e, eq_of_beq h]
  · cases h
abbrev R_J5_isLatin1 : Room := { frames := 0, cells := 0, slots := 0, locals := 0 }
noncomputable def f_J5_isLatin1 (x0r0n : Nat) (x0r0c : Nat → Int32) : Option (Bool) :=
  some true
theorem hd_J5_isLatin1 : Hd yJ5_isLatin1 0 := by unfold Hd; decide +kernel
set_option maxHeartbeats 4000000 in
set_option maxRecDepth 100000 in
theorem m_J5_isLatin1 {l : Launch} {D : DD} (x0 : Nat) (x0r0 : Nat) (x0e2 : Int32) (x0e3 : Int32) (x0r0n : Nat) (x0r0c : Nat → Int32) (r : Bool) (h : f_J5_isLatin1 x0r0n x0r0c = some r) : MP l D yJ5_isLatin1 cJ5_isLatin1 1 (some .boolean) 0 0 [.ref x0] (fun H => OA D 3 x0 [.ref x0r0, .int 0, .int x0e2, .int x0e3] H ∧ aB D x0r0 x0r0n x0r0c H ∧ x0r0n ≤ 1000000) (some (.int (bI r))) := by
  refine MP.start (by decide +kernel) (Nat.le_of_ble_eq_true rfl) ?_
  intro p e s m below meth c ls hC hS hp hl
  obtain ⟨h_x0, h_x0r0, l_x0r0⟩ := hp
  obtain ⟨hx, hb, hr, hlk, hml, hown, hts, hnm⟩ := id hC
  have hl : lv_has ls 1 [(0, .ref x0)] := hl
  unfold f_J5_isLatin1 at h
  have hS0 := hS
  obtain ⟨A, eA⟩ : ∃ A : Array Value, A = [.ref x0].toArray := ⟨_, rfl⟩
  rw [← eA] at hC hts ⊢
  obtain ⟨Q, eQ⟩ : ∃ Q : State → Prop, Q = MQ below (PQ (some (.int (bI r)))) A s 0 0 (fun _ => False) := ⟨_, rfl⟩
  show W p l e R_J5_isLatin1 s m A below meth c s.heap [] 0 0 _ _
  rw [← eQ]
  refine r_gets hx hb hts hown hS 13 rfl q639 dJ5_isLatin1_0 ?_
  refine lv_if_eq (tgt := 17) hx hb dJ5_isLatin1_3 (by decide) (fun c1 => ?_) (fun c1 => ?_)
  · exact absurd c1 (by decide)
  refine lv_aload_n hx hb dJ5_isLatin1_6 rfl (lv_at hl 0 rfl) ?_
  refine r_get hx hb hts hown hS h_x0 rfl in_J5 1 (by decide) q761 rfl (v := .int 0) rfl dJ5_isLatin1_7 ?_
  refine lv_if_ne (tgt := 17) hx hb dJ5_isLatin1_10 (by decide) (fun c2 => ?_) (fun c2 => ?_)
  · exact absurd c2 (by decide)
  refine lv_iconst (v := 1) hx hb dJ5_isLatin1_13 (by decide) ?_
  refine lv_goto (tgt := 18) hx hb dJ5_isLatin1_14 (by decide) ?_
  obtain rfl := Option.some.inj h
  rw [eQ]
  exact p_zret hx hb hr hlk (by decide) dJ5_isLatin1_18 rfl

abbrev R_J5_coder : Room := { frames := 0, cells := 0, slots := 0, locals := 0 }
noncomputable def f_J5_coder (x0r0n : Nat) (x0r0c : Nat → Int32) : Option (Int32) :=
  some 0
theorem hd_J5_coder : Hd yJ5_coder 0 := by unfold Hd; decide +kernel
set_option maxHeartbeats 4000000 in
set_option maxRecDepth 100000 in
theorem m_J5_coder {l : Launch} {D : DD} (x0 : Nat) (x0r0 : Nat) (x0e2 : Int32) (x0e3 : Int32) (x0r0n : Nat) (x0r0c : Nat → Int32) (r : Int32) (h : f_J5_coder x0r0n x0r0c = some r) : MP l D yJ5_coder cJ5_coder 1 (some .byte) 0 0 [.ref x0] (fun H => OA D 3 x0 [.ref x0r0, .int 0, .int x0e2, .int x0e3] H ∧ aB D x0r0 x0r0n x0r0c H ∧ x0r0n ≤ 1000000) (some (.int r)) := by
  refine MP.start (by decide +kernel) (Nat.le_of_ble_eq_true rfl) ?_
  intro p e s m below meth c ls hC hS hp hl
  obtain ⟨h_x0, h_x0r0, l_x0r0⟩ := hp
  obtain ⟨hx, hb, hr, hlk, hml, hown, hts, hnm⟩ := id hC
  have hl : lv_has ls 1 [(0, .ref x0)] := hl
  unfold f_J5_coder at h
  have hS0 := hS
  obtain ⟨A, eA⟩ : ∃ A : Array Value, A = [.ref x0].toArray := ⟨_, rfl⟩
  rw [← eA] at hC hts ⊢
  obtain ⟨Q, eQ⟩ : ∃ Q : State → Prop, Q = MQ below (PQ (some (.int r))) A s 0 0 (fun _ => False) := ⟨_, rfl⟩
  show W p l e R_J5_coder s m A below meth c s.heap [] 0 0 _ _
  rw [← eQ]
  refine r_gets hx hb hts hown hS 13 rfl q639 dJ5_coder_0 ?_
  refine lv_if_eq (tgt := 13) hx hb dJ5_coder_3 (by decide) (fun c1 => ?_) (fun c1 => ?_)
  · exact absurd c1 (by decide)
  refine lv_aload_n hx hb dJ5_coder_6 rfl (lv_at hl 0 rfl) ?_
  refine r_get hx hb hts hown hS h_x0 rfl in_J5 1 (by decide) q761 rfl (v := .int 0) rfl dJ5_coder_7 ?_
  refine lv_goto (tgt := 14) hx hb dJ5_coder_10 (by decide) ?_
  obtain rfl := Option.some.inj h
  rw [eQ]
  exact p_zret hx hb hr hlk (by decide) dJ5_coder_14 rfl

abbrev R_J5_length : Room := { frames := 1, cells := 0, slots := 0, locals := 20 }
noncomputable def f_J5_length (x0r0n : Nat) (x0r0c : Nat → Int32) : Option (Int32) :=
  Option.bind (f_J5_coder x0r0n x0r0c) fun o1 =>
  lti ((nI x0r0n) >>> (o1 &&& 31)) fun v2 =>
  some v2
theorem hd_J5_length : Hd yJ5_length 0 := by unfold Hd; decide +kernel
set_option maxHeartbeats 4000000 in
set_option maxRecDepth 100000 in
theorem m_J5_length {l : Launch} {D : DD} (x0 : Nat) (x0r0 : Nat) (x0e2 : Int32) (x0e3 : Int32) (x0r0n : Nat) (x0r0c : Nat → Int32) (r : Int32) (h : f_J5_length x0r0n x0r0c = some r) : MP l D yJ5_length cJ5_length 1 (some .int) 1 20 [.ref x0] (fun H => OA D 3 x0 [.ref x0r0, .int 0, .int x0e2, .int x0e3] H ∧ aB D x0r0 x0r0n x0r0c H ∧ x0r0n ≤ 1000000) (some (.int r)) := by
  refine MP.start (by decide +kernel) (Nat.le_of_ble_eq_true rfl) ?_
  intro p e s m below meth c ls hC hS hp hl
  obtain ⟨h_x0, h_x0r0, l_x0r0⟩ := hp
  obtain ⟨hx, hb, hr, hlk, hml, hown, hts, hnm⟩ := id hC
  have hl : lv_has ls 1 [(0, .ref x0)] := hl
  unfold f_J5_length at h
  have hS0 := hS
  obtain ⟨A, eA⟩ : ∃ A : Array Value, A = [.ref x0].toArray := ⟨_, rfl⟩
  rw [← eA] at hC hts ⊢
  obtain ⟨Q, eQ⟩ : ∃ Q : State → Prop, Q = MQ below (PQ (some (.int r))) A s 0 0 (fun _ => False) := ⟨_, rfl⟩
  show W p l e R_J5_length s m A below meth c s.heap [] 0 0 _ _
  rw [← eQ]
  refine lv_aload_n hx hb dJ5_length_0 rfl (lv_at hl 0 rfl) ?_
  refine r_get hx hb hts hown hS h_x0 rfl in_J5 0 (by decide) q760 rfl (v := .ref x0r0) rfl dJ5_length_1 ?_
  refine r_alen hx hb hS h_x0r0 dJ5_length_4 ?_
  refine lv_aload_n hx hb dJ5_length_5 rfl (lv_at hl 0 rfl) ?_
  obtain ⟨o1, eo1, h⟩ := bind_step h
  refine r_cp (r_runV (rest := [.int (nI x0r0n)]) (As := []) hC 0 (m_J5_coder x0 x0r0 x0e2 x0e3 x0r0n x0r0c o1 eo1) q635 q636 q637 q45 q638 (OA.recv hS h_x0 (C := RJ5) rfl) hd_J5_coder rfl ⟨Nat.le_of_ble_eq_true rfl, Nat.le_of_ble_eq_true rfl⟩ hS ⟨h_x0, h_x0r0, l_x0r0⟩ hl.1 rfl (Nat.le_of_ble_eq_true rfl) dJ5_length_6 ⟨Nat.le_of_ble_eq_true rfl, Nat.le_of_ble_eq_true rfl⟩) ?_
  obtain ⟨v2, ev2, h⟩ := lti_step h
  refine r_ishr hx hb ev2 dJ5_length_9 ?_
  obtain rfl := Option.some.inj h
  rw [eQ]
  exact p_iret hx hb hr hlk dJ5_length_10 rfl

abbrev R_J25_indexOfChar : Room := { frames := 0, cells := 0, slots := 0, locals := 0 }
noncomputable def f_J25_indexOfChar (x0n : Nat) (x0c : Nat → Int32) (x1 : Int32) (x2 : Int32) (x3 : Int32) : Option (Int32) :=
  lti (x1.toInt8.toInt32) fun v1 =>
  lt (fun (v2 : Int32) =>
  (show Option (Sum (Int32) (Int32)) from (
  (if x3 ≤ v2 then
    some (.inr (-1))
  else
    gd x0n v2 fun i12 =>
    lti (x0c i12) fun v13 =>
    (if v13 = v1 then
      some (.inr v2)
    else
      lti (v2 + 1) fun v15 =>
      some (.inl v15)
    )
  )
  ))
  ) fun F8 =>
  Option.bind (lp 41 (fun x => F8 x) x2) fun w9 =>
  (some w9)
theorem hd_J25_indexOfChar : Hd yJ25_indexOfChar 4 := by unfold Hd; decide +kernel
set_option maxHeartbeats 4000000 in
set_option maxRecDepth 100000 in
theorem m_J25_indexOfChar {l : Launch} {D : DD} (x0 : Nat)  (x0n : Nat) (x0c : Nat → Int32) (x1 : Int32) (x2 : Int32) (x3 : Int32) (r : Int32) (h : f_J25_indexOfChar x0n x0c x1 x2 x3 = some r) : MP l D yJ25_indexOfChar cJ25_indexOfChar 6 (some .int) 0 0 [.ref x0, .int x1, .int x2, .int x3] (fun H => aB D x0 x0n x0c H ∧ x0n ≤ 1000000) (some (.int r)) := by
  refine MP.start (by decide +kernel) (Nat.le_of_ble_eq_true rfl) ?_
  intro p e s m below meth c ls hC hS hp hl
  obtain ⟨h_x0, l_x0⟩ := hp
  obtain ⟨hx, hb, hr, hlk, hml, hown, hts, hnm⟩ := id hC
  have hl : lv_has ls 6 [(0, .ref x0), (1, .int x1), (2, .int x2), (3, .int x3)] := hl
  unfold f_J25_indexOfChar at h
  have hS0 := hS
  obtain ⟨A, eA⟩ : ∃ A : Array Value, A = [.ref x0, .int x1, .int x2, .int x3].toArray := ⟨_, rfl⟩
  rw [← eA] at hC hts ⊢
  obtain ⟨Q, eQ⟩ : ∃ Q : State → Prop, Q = MQ below (PQ (some (.int r))) A s 0 0 (fun _ => False) := ⟨_, rfl⟩
  show W p l e R_J25_indexOfChar s m A below meth c s.heap [] 0 0 _ _
  rw [← eQ]
  refine lv_iload_n hx hb dJ25_indexOfChar_0 rfl (lv_at hl 1 rfl) ?_
  obtain ⟨v1, ev1, h⟩ := lti_step h
  refine r_i2b hx hb ev1 dJ25_indexOfChar_1 ?_
  refine lv_istore (lv' := [(4, .int v1), (0, .ref x0), (1, .int x1), (2, .int x2), (3, .int x3)]) hx hb dJ25_indexOfChar_2 hl (by decide) rfl (fun ls hl => ?_)
  refine lv_iload_n hx hb dJ25_indexOfChar_4 rfl (lv_at hl 3 rfl) ?_
  refine lv_istore (lv' := [(5, .int x2), (4, .int v1), (0, .ref x0), (1, .int x1), (2, .int x2), (3, .int x3)]) hx hb dJ25_indexOfChar_5 hl (by decide) rfl (fun ls hl => ?_)
  obtain ⟨F8, eF8, h⟩ := lt_step h
  obtain ⟨w9, ew9, h⟩ := bind_step h
  have HL : ∀ (n : Nat) (v2 : Int32) (w9 : Int32) (hk0 : lp n (fun x => F8 x) v2 = some w9)   (ls : Array Slot) (hl : lv_has ls 6 [(0, .ref x0), (3, .int x3), (4, .int v1), (5, .int v2)]) (KR : ∀ rt, w9 = rt → rt = r), W p l e R_J25_indexOfChar s m A below meth c s.heap [] 0 0 Q (F0 m 7 ls []) := by
    intro n
    induction n with
    | zero => intro v2 w9 hk0   ls hl KR; exact lp_zero hk0
    | succ n ih =>
      intro v2 w9 hk0   ls hl KR
      obtain ⟨z10, hz, hk⟩ := lp_step hk0
      have h := (congrFun (eF8) v2).symm.trans hz
      refine lv_iload hx hb dJ25_indexOfChar_7 (lv_at hl 3 rfl) ?_
      refine lv_iload_n hx hb dJ25_indexOfChar_9 rfl (lv_at hl 1 rfl) ?_
      refine lv_icmp_ge (tgt := 31) hx hb dJ25_indexOfChar_10 (by decide) (fun c11 => ?_) (fun c11 => ?_)
      · have h := it_pos h c11
        refine lv_iconst (v := (-1)) hx hb dJ25_indexOfChar_31 (by decide) ?_
        obtain rfl := Option.some.inj h
        have h := congrArg some (KR _ hk.symm)
        obtain rfl := Option.some.inj h
        rw [eQ]
        exact p_iret hx hb hr hlk dJ25_indexOfChar_32 rfl
      · have h := it_neg h c11
        refine lv_aload_n hx hb dJ25_indexOfChar_13 rfl (lv_at hl 0 rfl) ?_
        refine lv_iload hx hb dJ25_indexOfChar_14 (lv_at hl 3 rfl) ?_
        obtain ⟨i12, xi12, h⟩ := gd_step (nl0 l_x0) h
        refine r_bald hx hb hS h_x0 i12 xi12 dJ25_indexOfChar_16 ?_
        obtain ⟨v13, ev13, h⟩ := lti_step h
        refine r_nmI ev13 ?_
        refine lv_iload hx hb dJ25_indexOfChar_17 (lv_at hl 2 rfl) ?_
        refine lv_icmp_ne (tgt := 25) hx hb dJ25_indexOfChar_19 (by decide) (fun c14 => ?_) (fun c14 => ?_)
        · have h := it_neg h c14
          obtain ⟨v15, ev15, h⟩ := lti_step h
          refine lv_iinc (v := v15) (lv' := [(5, .int v15), (0, .ref x0), (3, .int x3), (4, .int v1)]) hx hb dJ25_indexOfChar_25 hl (k := 3) rfl (by rw [ev15]; rfl) (by decide) rfl (fun ls hl => ?_)
          refine lv_goto (tgt := 7) hx hb dJ25_indexOfChar_28 (by decide) ?_
          obtain rfl := Option.some.inj h
          exact ih v15 w9 hk   ls (lv_sub hl [1, 2, 3, 0] rfl) KR
        · have h := it_pos h c14
          refine lv_iload hx hb dJ25_indexOfChar_22 (lv_at hl 3 rfl) ?_
          obtain rfl := Option.some.inj h
          have h := congrArg some (KR _ hk.symm)
          obtain rfl := Option.some.inj h
          rw [eQ]
          exact p_iret hx hb hr hlk dJ25_indexOfChar_24 rfl
  clear eF8
  refine HL 41 x2 w9 ew9   ls (lv_sub hl [2, 5, 1, 0] rfl) (fun rt eR => ?_)
  subst eR
  exact Option.some.inj h

abbrev R_J25_indexOf : Room := { frames := 1, cells := 0, slots := 0, locals := 25 }
noncomputable def f_J25_indexOf (x0n : Nat) (x0c : Nat → Int32) (x1 : Int32) (x2 : Int32) (x3 : Int32) : Option (Int32) :=
  Option.bind (f_J25_canEncode_2 x1) fun o1 =>
  (if o1 = true then
    Option.bind (f_J12_max x2 0) fun o3 =>
    Option.bind (f_J12_min x3 (nI x0n)) fun o4 =>
    (if o3 < o4 then
      Option.bind (f_J25_indexOfChar x0n x0c x1 o3 o4) fun o6 =>
      some o6
    else
      some (-1)
    )
  else
    some (-1)
  )
theorem hd_J25_indexOf : Hd yJ25_indexOf 4 := by unfold Hd; decide +kernel
set_option maxHeartbeats 4000000 in
set_option maxRecDepth 100000 in
theorem m_J25_indexOf {l : Launch} {D : DD} (x0 : Nat)  (x0n : Nat) (x0c : Nat → Int32) (x1 : Int32) (x2 : Int32) (x3 : Int32) (r : Int32) (h : f_J25_indexOf x0n x0c x1 x2 x3 = some r) : MP l D yJ25_indexOf cJ25_indexOf 4 (some .int) 1 25 [.ref x0, .int x1, .int x2, .int x3] (fun H => aB D x0 x0n x0c H ∧ x0n ≤ 1000000) (some (.int r)) := by
  refine MP.start (by decide +kernel) (Nat.le_of_ble_eq_true rfl) ?_
  intro p e s m below meth c ls hC hS hp hl
  obtain ⟨h_x0, l_x0⟩ := hp
  obtain ⟨hx, hb, hr, hlk, hml, hown, hts, hnm⟩ := id hC
  have hl : lv_has ls 4 [(0, .ref x0), (1, .int x1), (2, .int x2), (3, .int x3)] := hl
  unfold f_J25_indexOf at h
  have hS0 := hS
  obtain ⟨A, eA⟩ : ∃ A : Array Value, A = [.ref x0, .int x1, .int x2, .int x3].toArray := ⟨_, rfl⟩
  rw [← eA] at hC hts ⊢
  obtain ⟨Q, eQ⟩ : ∃ Q : State → Prop, Q = MQ below (PQ (some (.int r))) A s 0 0 (fun _ => False) := ⟨_, rfl⟩
  show W p l e R_J25_indexOf s m A below meth c s.heap [] 0 0 _ _
  rw [← eQ]
  refine lv_iload_n hx hb dJ25_indexOf_0 rfl (lv_at hl 1 rfl) ?_
  obtain ⟨o1, eo1, h⟩ := bind_step h
  refine r_cp (r_runS (rest := []) (As := [.int x1]) hC 1 (m_J25_canEncode_2   x1 o1 eo1) q1048 q1049 q67 q1050 hd_J25_canEncode_2 rfl ⟨Nat.le_of_ble_eq_true rfl, Nat.le_of_ble_eq_true rfl⟩ hS trivial hl.1 rfl (Nat.le_of_ble_eq_true rfl) dJ25_indexOf_1 ⟨Nat.le_of_ble_eq_true rfl, Nat.le_of_ble_eq_true rfl⟩) ?_
  refine r_ifz_ne (tgt := 9) hx hb dJ25_indexOf_4 (by decide) (fun c2 => ?_) (fun c2 => ?_)
  · have h := it_pos h (by rw [c2])
    refine lv_iload_n hx hb dJ25_indexOf_9 rfl (lv_at hl 2 rfl) ?_
    refine lv_iconst (v := 0) hx hb dJ25_indexOf_10 (by decide) ?_
    obtain ⟨o3, eo3, h⟩ := bind_step h
    refine r_cp (r_runS (rest := []) (As := [.int x2, .int 0]) hC 2 (m_J12_max x2 0  o3 eo3) q1051 q254 q53 q255 hd_J12_max rfl ⟨Nat.le_of_ble_eq_true rfl, Nat.le_of_ble_eq_true rfl⟩ hS trivial hl.1 rfl (Nat.le_of_ble_eq_true rfl) dJ25_indexOf_11 ⟨Nat.le_of_ble_eq_true rfl, Nat.le_of_ble_eq_true rfl⟩) ?_
    refine lv_istore_n (lv' := [(2, .int o3), (0, .ref x0), (1, .int x1), (3, .int x3)]) hx hb dJ25_indexOf_14 rfl hl (by decide) rfl (fun ls hl => ?_)
    refine lv_iload_n hx hb dJ25_indexOf_15 rfl (lv_at hl 3 rfl) ?_
    refine lv_aload_n hx hb dJ25_indexOf_16 rfl (lv_at hl 1 rfl) ?_
    refine r_alen hx hb hS h_x0 dJ25_indexOf_17 ?_
    obtain ⟨o4, eo4, h⟩ := bind_step h
    refine r_cp (r_runS (rest := []) (As := [.int x3, .int (nI x0n)]) hC 2 (m_J12_min x3 (nI x0n)  o4 eo4) q1052 q259 q53 q260 hd_J12_min rfl ⟨Nat.le_of_ble_eq_true rfl, Nat.le_of_ble_eq_true rfl⟩ hS trivial hl.1 rfl (Nat.le_of_ble_eq_true rfl) dJ25_indexOf_18 ⟨Nat.le_of_ble_eq_true rfl, Nat.le_of_ble_eq_true rfl⟩) ?_
    refine lv_istore_n (lv' := [(3, .int o4), (2, .int o3), (0, .ref x0), (1, .int x1)]) hx hb dJ25_indexOf_21 rfl hl (by decide) rfl (fun ls hl => ?_)
    refine lv_iload_n hx hb dJ25_indexOf_22 rfl (lv_at hl 1 rfl) ?_
    refine lv_iload_n hx hb dJ25_indexOf_23 rfl (lv_at hl 0 rfl) ?_
    refine lv_icmp_lt (tgt := 29) hx hb dJ25_indexOf_24 (by decide) (fun c5 => ?_) (fun c5 => ?_)
    · have h := it_pos h c5
      refine lv_aload_n hx hb dJ25_indexOf_29 rfl (lv_at hl 2 rfl) ?_
      refine lv_iload_n hx hb dJ25_indexOf_30 rfl (lv_at hl 3 rfl) ?_
      refine lv_iload_n hx hb dJ25_indexOf_31 rfl (lv_at hl 1 rfl) ?_
      refine lv_iload_n hx hb dJ25_indexOf_32 rfl (lv_at hl 0 rfl) ?_
      obtain ⟨o6, eo6, h⟩ := bind_step h
      refine r_cp (r_runS (rest := []) (As := [.ref x0, .int x1, .int o3, .int o4]) hC 4 (m_J25_indexOfChar x0  x0n x0c x1 o3 o4 o6 eo6) q1053 q1054 q67 q1055 hd_J25_indexOfChar rfl ⟨Nat.le_of_ble_eq_true rfl, Nat.le_of_ble_eq_true rfl⟩ hS ⟨h_x0, l_x0⟩ hl.1 rfl (Nat.le_of_ble_eq_true rfl) dJ25_indexOf_33 ⟨Nat.le_of_ble_eq_true rfl, Nat.le_of_ble_eq_true rfl⟩) ?_
      obtain rfl := Option.some.inj h
      rw [eQ]
      exact p_iret hx hb hr hlk dJ25_indexOf_36 rfl
    · have h := it_neg h c5
      refine lv_iconst (v := (-1)) hx hb dJ25_indexOf_27 (by decide) ?_
      obtain rfl := Option.some.inj h
      rw [eQ]
      exact p_iret hx hb hr hlk dJ25_indexOf_28 rfl
  · have h := it_neg h (by rw [c2]; decide)
    refine lv_iconst (v := (-1)) hx hb dJ25_indexOf_7 (by decide) ?_
    obtain rfl := Option.some.inj h
    rw [eQ]
    exact p_iret hx hb hr hlk dJ25_indexOf_8 rfl

abbrev R_J5_indexOf : Room := { frames := 2, cells := 0, slots := 0, locals := 48 }
noncomputable def f_J5_indexOf (x0r0n : Nat) (x0r0c : Nat → Int32) (x1 : Int32) (x2 : Int32) : Option (Int32) :=
  Option.bind (f_J5_isLatin1 x0r0n x0r0c) fun o1 =>
  (if o1 = true then
    Option.bind (f_J5_length x0r0n x0r0c) fun o3 =>
    Option.bind (f_J25_indexOf x0r0n x0r0c x1 x2 o3) fun o4 =>
    some o4
  else
    none
  )
theorem hd_J5_indexOf : Hd yJ5_indexOf 2 := by unfold Hd; decide +kernel
set_option maxHeartbeats 4000000 in
set_option maxRecDepth 100000 in
theorem m_J5_indexOf {l : Launch} {D : DD} (x0 : Nat) (x0r0 : Nat) (x0e2 : Int32) (x0e3 : Int32) (x0r0n : Nat) (x0r0c : Nat → Int32) (x1 : Int32) (x2 : Int32) (r : Int32) (h : f_J5_indexOf x0r0n x0r0c x1 x2 = some r) : MP l D yJ5_indexOf cJ5_indexOf 3 (some .int) 2 48 [.ref x0, .int x1, .int x2] (fun H => OA D 3 x0 [.ref x0r0, .int 0, .int x0e2, .int x0e3] H ∧ aB D x0r0 x0r0n x0r0c H ∧ x0r0n ≤ 1000000) (some (.int r)) := by
  refine MP.start (by decide +kernel) (Nat.le_of_ble_eq_true rfl) ?_
  intro p e s m below meth c ls hC hS hp hl
  obtain ⟨h_x0, h_x0r0, l_x0r0⟩ := hp
  obtain ⟨hx, hb, hr, hlk, hml, hown, hts, hnm⟩ := id hC
  have hl : lv_has ls 3 [(0, .ref x0), (1, .int x1), (2, .int x2)] := hl
  unfold f_J5_indexOf at h
  have hS0 := hS
  obtain ⟨A, eA⟩ : ∃ A : Array Value, A = [.ref x0, .int x1, .int x2].toArray := ⟨_, rfl⟩
  rw [← eA] at hC hts ⊢
  obtain ⟨Q, eQ⟩ : ∃ Q : State → Prop, Q = MQ below (PQ (some (.int r))) A s 0 0 (fun _ => False) := ⟨_, rfl⟩
  show W p l e R_J5_indexOf s m A below meth c s.heap [] 0 0 _ _
  rw [← eQ]
  refine lv_aload_n hx hb dJ5_indexOf_0 rfl (lv_at hl 0 rfl) ?_
  obtain ⟨o1, eo1, h⟩ := bind_step h
  refine r_cp (r_runV (rest := []) (As := []) hC 0 (m_J5_isLatin1 x0 x0r0 x0e2 x0e3 x0r0n x0r0c o1 eo1) q1040 q1041 q1042 q45 q1043 (OA.recv hS h_x0 (C := RJ5) rfl) hd_J5_isLatin1 rfl ⟨Nat.le_of_ble_eq_true rfl, Nat.le_of_ble_eq_true rfl⟩ hS ⟨h_x0, h_x0r0, l_x0r0⟩ hl.1 rfl (Nat.le_of_ble_eq_true rfl) dJ5_indexOf_1 ⟨Nat.le_of_ble_eq_true rfl, Nat.le_of_ble_eq_true rfl⟩) ?_
  refine r_ifz_eq (tgt := 23) hx hb dJ5_indexOf_4 (by decide) (fun c2 => ?_) (fun c2 => ?_)
  · have h := it_neg h (by rw [c2]; decide)
    cases h
  · have h := it_pos h (by rw [c2])
    refine lv_aload_n hx hb dJ5_indexOf_7 rfl (lv_at hl 0 rfl) ?_
    refine r_get hx hb hts hown hS h_x0 rfl in_J5 0 (by decide) q760 rfl (v := .ref x0r0) rfl dJ5_indexOf_8 ?_
    refine lv_iload_n hx hb dJ5_indexOf_11 rfl (lv_at hl 1 rfl) ?_
    refine lv_iload_n hx hb dJ5_indexOf_12 rfl (lv_at hl 2 rfl) ?_
    refine lv_aload_n hx hb dJ5_indexOf_13 rfl (lv_at hl 0 rfl) ?_
    obtain ⟨o3, eo3, h⟩ := bind_step h
    refine r_cp (r_runV (rest := [.int x2, .int x1, .ref x0r0]) (As := []) hC 0 (m_J5_length x0 x0r0 x0e2 x0e3 x0r0n x0r0c o3 eo3) q1044 q632 q633 q45 q634 (OA.recv hS h_x0 (C := RJ5) rfl) hd_J5_length rfl ⟨Nat.le_of_ble_eq_true rfl, Nat.le_of_ble_eq_true rfl⟩ hS ⟨h_x0, h_x0r0, l_x0r0⟩ hl.1 rfl (Nat.le_of_ble_eq_true rfl) dJ5_indexOf_14 ⟨Nat.le_of_ble_eq_true rfl, Nat.le_of_ble_eq_true rfl⟩) ?_
    obtain ⟨o4, eo4, h⟩ := bind_step h
    refine r_cp (r_runS (rest := []) (As := [.ref x0r0, .int x1, .int x2, .int o3]) hC 4 (m_J25_indexOf x0r0  x0r0n x0r0c x1 x2 o3 o4 eo4) q1045 q1046 q67 q1047 hd_J25_indexOf rfl ⟨Nat.le_of_ble_eq_true rfl, Nat.le_of_ble_eq_true rfl⟩ hS ⟨h_x0r0, l_x0r0⟩ hl.1 rfl (Nat.le_of_ble_eq_true rfl) dJ5_indexOf_17 ⟨Nat.le_of_ble_eq_true rfl, Nat.le_of_ble_eq_true rfl⟩) ?_
    refine lv_goto (tgt := 36) hx hb dJ5_indexOf_20 (by decide) ?_
    obtain rfl := Option.some.inj h
    rw [eQ]
    exact p_iret hx hb hr hlk dJ5_indexOf_36 rfl

abbrev R_J18_ci_N : Room := { frames := 0, cells := 0, slots := 0, locals := 0 }
noncomputable def f_J18_ci_N (x0 : Int32) (x1 : Int32) : Option (Int32) :=
  (if x0 < 0 then
    none
  else
    (if x0 < x1 then
      some x0
    else
      none
    )
  )
theorem hd_J18_ci_N : Hd yJ18_checkIndex 3 := by unfold Hd; decide +kernel
set_option maxHeartbeats 4000000 in
set_option maxRecDepth 100000 in
theorem m_J18_ci_N {l : Launch} {D : DD}   (x0 : Int32) (x1 : Int32) (r : Int32) (h : f_J18_ci_N x0 x1 = some r) : MP l D yJ18_checkIndex cJ18_checkIndex 3 (some .int) 0 0 [.int x0, .int x1, .null] NoPre (some (.int r)) := by
  refine MP.start (by decide +kernel) (Nat.le_of_ble_eq_true rfl) ?_
  intro p e s m below meth c ls hC hS hp hl
  obtain ⟨hx, hb, hr, hlk, hml, hown, hts, hnm⟩ := id hC
  have hl : lv_has ls 3 [(0, .int x0), (1, .int x1), (2, .null)] := hl
  unfold f_J18_ci_N at h
  have hS0 := hS
  obtain ⟨A, eA⟩ : ∃ A : Array Value, A = [.int x0, .int x1, .null].toArray := ⟨_, rfl⟩
  rw [← eA] at hC hts ⊢
  obtain ⟨Q, eQ⟩ : ∃ Q : State → Prop, Q = MQ below (PQ (some (.int r))) A s 0 0 (fun _ => False) := ⟨_, rfl⟩
  show W p l e R_J18_ci_N s m A below meth c s.heap [] 0 0 _ _
  rw [← eQ]
  refine lv_iload_n hx hb dJ18_checkIndex_0 rfl (lv_at hl 0 rfl) ?_
  refine lv_if_lt (tgt := 9) hx hb dJ18_checkIndex_1 (by decide) (fun c1 => ?_) (fun c1 => ?_)
  · have h := it_pos h c1
    refine lv_aload_nN hx hb dJ18_checkIndex_9 rfl (lv_at hl 2 rfl) ?_
    refine lv_iload_n hx hb dJ18_checkIndex_10 rfl (lv_at hl 0 rfl) ?_
    refine lv_iload_n hx hb dJ18_checkIndex_11 rfl (lv_at hl 1 rfl) ?_
    cases h
  · have h := it_neg h c1
    refine lv_iload_n hx hb dJ18_checkIndex_4 rfl (lv_at hl 0 rfl) ?_
    refine lv_iload_n hx hb dJ18_checkIndex_5 rfl (lv_at hl 1 rfl) ?_
    refine lv_icmp_lt (tgt := 16) hx hb dJ18_checkIndex_6 (by decide) (fun c2 => ?_) (fun c2 => ?_)
    · have h := it_pos h c2
      refine lv_iload_n hx hb dJ18_checkIndex_16 rfl (lv_at hl 0 rfl) ?_
      obtain rfl := Option.some.inj h
      rw [eQ]
      exact p_iret hx hb hr hlk dJ18_checkIndex_17 rfl
    · have h := it_neg h c2
      refine lv_aload_nN hx hb dJ18_checkIndex_9 rfl (lv_at hl 2 rfl) ?_
      refine lv_iload_n hx hb dJ18_checkIndex_10 rfl (lv_at hl 0 rfl) ?_
      refine lv_iload_n hx hb dJ18_checkIndex_11 rfl (lv_at hl 1 rfl) ?_
      cases h

abbrev R_J18_ci_R : Room := { frames := 0, cells := 0, slots := 0, locals := 0 }
/- its function: f_J18_ci_N -/
theorem hd_J18_ci_R : Hd yJ18_checkIndex 3 := by unfold Hd; decide +kernel
set_option maxHeartbeats 4000000 in
set_option maxRecDepth 100000 in
theorem m_J18_ci_R {l : Launch} {D : DD} (x2 : Nat)  (x0 : Int32) (x1 : Int32) (r : Int32) (h : f_J18_ci_N x0 x1 = some r) : MP l D yJ18_checkIndex cJ18_checkIndex 3 (some .int) 0 0 [.int x0, .int x1, .ref x2] NoPre (some (.int r)) := by
  refine MP.start (by decide +kernel) (Nat.le_of_ble_eq_true rfl) ?_
  intro p e s m below meth c ls hC hS hp hl
  obtain ⟨hx, hb, hr, hlk, hml, hown, hts, hnm⟩ := id hC
  have hl : lv_has ls 3 [(0, .int x0), (1, .int x1), (2, .ref x2)] := hl
  unfold f_J18_ci_N at h
  have hS0 := hS
  obtain ⟨A, eA⟩ : ∃ A : Array Value, A = [.int x0, .int x1, .ref x2].toArray := ⟨_, rfl⟩
  rw [← eA] at hC hts ⊢
  obtain ⟨Q, eQ⟩ : ∃ Q : State → Prop, Q = MQ below (PQ (some (.int r))) A s 0 0 (fun _ => False) := ⟨_, rfl⟩
  show W p l e R_J18_ci_R s m A below meth c s.heap [] 0 0 _ _
  rw [← eQ]
  refine lv_iload_n hx hb dJ18_checkIndex_0 rfl (lv_at hl 0 rfl) ?_
  refine lv_if_lt (tgt := 9) hx hb dJ18_checkIndex_1 (by decide) (fun c1 => ?_) (fun c1 => ?_)
  · have h := it_pos h c1
    refine lv_aload_n hx hb dJ18_checkIndex_9 rfl (lv_at hl 2 rfl) ?_
    refine lv_iload_n hx hb dJ18_checkIndex_10 rfl (lv_at hl 0 rfl) ?_
    refine lv_iload_n hx hb dJ18_checkIndex_11 rfl (lv_at hl 1 rfl) ?_
    cases h
  · have h := it_neg h c1
    refine lv_iload_n hx hb dJ18_checkIndex_4 rfl (lv_at hl 0 rfl) ?_
    refine lv_iload_n hx hb dJ18_checkIndex_5 rfl (lv_at hl 1 rfl) ?_
    refine lv_icmp_lt (tgt := 16) hx hb dJ18_checkIndex_6 (by decide) (fun c2 => ?_) (fun c2 => ?_)
    · have h := it_pos h c2
      refine lv_iload_n hx hb dJ18_checkIndex_16 rfl (lv_at hl 0 rfl) ?_
      obtain rfl := Option.some.inj h
      rw [eQ]
      exact p_iret hx hb hr hlk dJ18_checkIndex_17 rfl
    · have h := it_neg h c2
      refine lv_aload_n hx hb dJ18_checkIndex_9 rfl (lv_at hl 2 rfl) ?_
      refine lv_iload_n hx hb dJ18_checkIndex_10 rfl (lv_at hl 0 rfl) ?_
      refine lv_iload_n hx hb dJ18_checkIndex_11 rfl (lv_at hl 1 rfl) ?_
      cases h

abbrev R_J5_checkIndex : Room := { frames := 1, cells := 0, slots := 0, locals := 22 }
noncomputable def f_J5_checkIndex (x0 : Int32) (x1 : Int32) : Option (Unit) :=
  Option.bind (f_J18_ci_N x0 x1) fun o3 =>
  some ()
theorem hd_J5_checkIndex : Hd yJ5_checkIndex 2 := by unfold Hd; decide +kernel
set_option maxHeartbeats 4000000 in
set_option maxRecDepth 100000 in
theorem m_J5_checkIndex {l : Launch} {D : DD}   (x0 : Int32) (x1 : Int32) (r : Unit) (h : f_J5_checkIndex x0 x1 = some r) : MP l D yJ5_checkIndex cJ5_checkIndex 2 none 1 22 [.int x0, .int x1] NoPre none := by
  refine MP.start (by decide +kernel) (Nat.le_of_ble_eq_true rfl) ?_
  intro p e s m below meth c ls hC hS hp hl
  obtain ⟨hx, hb, hr, hlk, hml, hown, hts, hnm⟩ := id hC
  have hl : lv_has ls 2 [(0, .int x0), (1, .int x1)] := hl
  unfold f_J5_checkIndex at h
  have hS0 := hS
  obtain ⟨A, eA⟩ : ∃ A : Array Value, A = [.int x0, .int x1].toArray := ⟨_, rfl⟩
  rw [← eA] at hC hts ⊢
  obtain ⟨Q, eQ⟩ : ∃ Q : State → Prop, Q = MQ below (PQ none) A s 0 0 (fun _ => False) := ⟨_, rfl⟩
  show W p l e R_J5_checkIndex s m A below meth c s.heap [] 0 0 _ _
  rw [← eQ]
  refine lv_iload_n hx hb dJ5_checkIndex_0 rfl (lv_at hl 0 rfl) ?_
  refine lv_iload_n hx hb dJ5_checkIndex_1 rfl (lv_at hl 1 rfl) ?_
  refine r_gets hx hb hts hown hS 20 rfl q619 dJ5_checkIndex_2 ?_
  obtain ⟨w1, ew1⟩ : ∃ x, x = dQ D := ⟨_, rfl⟩
  rw [← ew1]
  cases w1 with
  | none =>
    show W p l e _ s m _ below meth c _ _ _ _ _ (F0 m _ ls (.null :: _))
    obtain ⟨o3, eo3, h⟩ := bind_step h
    refine r_cp (r_runS (rest := []) (As := [.int x0, .int x1, .null]) hC 3 (m_J18_ci_N   x0 x1 o3 eo3) q1002 q1003 q60 q1004 hd_J18_ci_N rfl ⟨Nat.le_of_ble_eq_true rfl, Nat.le_of_ble_eq_true rfl⟩ hS trivial hl.1 rfl (Nat.le_of_ble_eq_true rfl) dJ5_checkIndex_5 ⟨Nat.le_of_ble_eq_true rfl, Nat.le_of_ble_eq_true rfl⟩) ?_
    refine lv_pop hx hb dJ5_checkIndex_8 rfl ?_
    obtain rfl := Option.some.inj h
    rw [eQ]
    exact p_vret hx hb hr hlk dJ5_checkIndex_9
  | some t2 =>
    show W p l e _ s m _ below meth c _ _ _ _ _ (F0 m _ ls (.ref t2 :: _))
    obtain ⟨o3, eo3, h⟩ := bind_step h
    refine r_cp (r_runS (rest := []) (As := [.int x0, .int x1, .ref t2]) hC 3 (m_J18_ci_R t2  x0 x1 o3 eo3) q1002 q1003 q60 q1004 hd_J18_ci_R rfl ⟨Nat.le_of_ble_eq_true rfl, Nat.le_of_ble_eq_true rfl⟩ hS trivial hl.1 rfl (Nat.le_of_ble_eq_true rfl) dJ5_checkIndex_5 ⟨Nat.le_of_ble_eq_true rfl, Nat.le_of_ble_eq_true rfl⟩) ?_
    refine lv_pop hx hb dJ5_checkIndex_8 rfl ?_
    obtain rfl := Option.some.inj h
    rw [eQ]
    exact p_vret hx hb hr hlk dJ5_checkIndex_9

abbrev R_J25_charAt : Room := { frames := 2, cells := 0, slots := 0, locals := 43 }
noncomputable def f_J25_charAt (x0n : Nat) (x0c : Nat → Int32) (x1 : Int32) : Option (Int32) :=
  Option.bind (f_J5_checkIndex x1 (nI x0n)) fun o1 =>
  gd x0n x1 fun i2 =>
  lti (x0c i2) fun v3 =>
  lti (v3 &&& 255) fun v4 =>
  lti ((v4.toUInt32 % 65536).toInt32) fun v5 =>
  ask (narOKb .char v5) <|
  some v5
theorem hd_J25_charAt : Hd yJ25_charAt 2 := by unfold Hd; decide +kernel
set_option maxHeartbeats 4000000 in
set_option maxRecDepth 100000 in
theorem m_J25_charAt {l : Launch} {D : DD} (x0 : Nat)  (x0n : Nat) (x0c : Nat → Int32) (x1 : Int32) (r : Int32) (h : f_J25_charAt x0n x0c x1 = some r) : MP l D yJ25_charAt cJ25_charAt 2 (some .char) 2 43 [.ref x0, .int x1] (fun H => aB D x0 x0n x0c H ∧ x0n ≤ 1000000) (some (.int r)) := by
  refine MP.start (by decide +kernel) (Nat.le_of_ble_eq_true rfl) ?_
  intro p e s m below meth c ls hC hS hp hl
  obtain ⟨h_x0, l_x0⟩ := hp
  obtain ⟨hx, hb, hr, hlk, hml, hown, hts, hnm⟩ := id hC
  have hl : lv_has ls 2 [(0, .ref x0), (1, .int x1)] := hl
  unfold f_J25_charAt at h
  have hS0 := hS
  obtain ⟨A, eA⟩ : ∃ A : Array Value, A = [.ref x0, .int x1].toArray := ⟨_, rfl⟩
  rw [← eA] at hC hts ⊢
  obtain ⟨Q, eQ⟩ : ∃ Q : State → Prop, Q = MQ below (PQ (some (.int r))) A s 0 0 (fun _ => False) := ⟨_, rfl⟩
  show W p l e R_J25_charAt s m A below meth c s.heap [] 0 0 _ _
  rw [← eQ]
  refine lv_iload_n hx hb dJ25_charAt_0 rfl (lv_at hl 1 rfl) ?_
  refine lv_aload_n hx hb dJ25_charAt_1 rfl (lv_at hl 0 rfl) ?_
  refine r_alen hx hb hS h_x0 dJ25_charAt_2 ?_
  obtain ⟨o1, eo1, h⟩ := bind_step h
  refine r_cpv (r_runS (rest := []) (As := [.int x1, .int (nI x0n)]) hC 2 (m_J5_checkIndex   x1 (nI x0n) o1 eo1) q1151 q1000 q45 q1001 hd_J5_checkIndex rfl ⟨Nat.le_of_ble_eq_true rfl, Nat.le_of_ble_eq_true rfl⟩ hS trivial hl.1 rfl (Nat.le_of_ble_eq_true rfl) dJ25_charAt_3 ⟨Nat.le_of_ble_eq_true rfl, Nat.le_of_ble_eq_true rfl⟩) ?_
  refine lv_aload_n hx hb dJ25_charAt_6 rfl (lv_at hl 0 rfl) ?_
  refine lv_iload_n hx hb dJ25_charAt_7 rfl (lv_at hl 1 rfl) ?_
  obtain ⟨i2, xi2, h⟩ := gd_step (nl0 l_x0) h
  refine r_bald hx hb hS h_x0 i2 xi2 dJ25_charAt_8 ?_
  obtain ⟨v3, ev3, h⟩ := lti_step h
  refine r_nmI ev3 ?_
  refine lv_sipush (v := 255) hx hb dJ25_charAt_9 (by decide) ?_
  obtain ⟨v4, ev4, h⟩ := lti_step h
  refine r_iand hx hb ev4 dJ25_charAt_12 ?_
  obtain ⟨v5, ev5, h⟩ := lti_step h
  refine r_i2c hx hb ev5 dJ25_charAt_13 ?_
  obtain ⟨b6, h⟩ := ask_step h
  obtain rfl := Option.some.inj h
  rw [eQ]
  exact p_zret hx hb hr hlk (narOK b6) dJ25_charAt_14 rfl

abbrev R_J5_charAt : Room := { frames := 3, cells := 0, slots := 0, locals := 64 }
noncomputable def f_J5_charAt (x0r0n : Nat) (x0r0c : Nat → Int32) (x1 : Int32) : Option (Int32) :=
  Option.bind (f_J5_isLatin1 x0r0n x0r0c) fun o1 =>
  (if o1 = true then
    Option.bind (f_J25_charAt x0r0n x0r0c x1) fun o3 =>
    ask (narOKb .char o3) <|
    some o3
  else
    none
  )
theorem hd_J5_charAt : Hd yJ5_charAt 1 := by unfold Hd; decide +kernel
set_option maxHeartbeats 4000000 in
set_option maxRecDepth 100000 in
theorem m_J5_charAt {l : Launch} {D : DD} (x0 : Nat) (x0r0 : Nat) (x0e2 : Int32) (x0e3 : Int32) (x0r0n : Nat) (x0r0c : Nat → Int32) (x1 : Int32) (r : Int32) (h : f_J5_charAt x0r0n x0r0c x1 = some r) : MP l D yJ5_charAt cJ5_charAt 2 (some .char) 3 64 [.ref x0, .int x1] (fun H => OA D 3 x0 [.ref x0r0, .int 0, .int x0e2, .int x0e3] H ∧ aB D x0r0 x0r0n x0r0c H ∧ x0r0n ≤ 1000000) (some (.int r)) := by
  refine MP.start (by decide +kernel) (Nat.le_of_ble_eq_true rfl) ?_
  intro p e s m below meth c ls hC hS hp hl
  obtain ⟨h_x0, h_x0r0, l_x0r0⟩ := hp
  obtain ⟨hx, hb, hr, hlk, hml, hown, hts, hnm⟩ := id hC
  have hl : lv_has ls 2 [(0, .ref x0), (1, .int x1)] := hl
  unfold f_J5_charAt at h
  have hS0 := hS
  obtain ⟨A, eA⟩ : ∃ A : Array Value, A = [.ref x0, .int x1].toArray := ⟨_, rfl⟩
  rw [← eA] at hC hts ⊢
  obtain ⟨Q, eQ⟩ : ∃ Q : State → Prop, Q = MQ below (PQ (some (.int r))) A s 0 0 (fun _ => False) := ⟨_, rfl⟩
  show W p l e R_J5_charAt s m A below meth c s.heap [] 0 0 _ _
  rw [← eQ]
  refine lv_aload_n hx hb dJ5_charAt_0 rfl (lv_at hl 0 rfl) ?_
  obtain ⟨o1, eo1, h⟩ := bind_step h
  refine r_cp (r_runV (rest := []) (As := []) hC 0 (m_J5_isLatin1 x0 x0r0 x0e2 x0e3 x0r0n x0r0c o1 eo1) q1040 q1041 q1042 q45 q1043 (OA.recv hS h_x0 (C := RJ5) rfl) hd_J5_isLatin1 rfl ⟨Nat.le_of_ble_eq_true rfl, Nat.le_of_ble_eq_true rfl⟩ hS ⟨h_x0, h_x0r0, l_x0r0⟩ hl.1 rfl (Nat.le_of_ble_eq_true rfl) dJ5_charAt_1 ⟨Nat.le_of_ble_eq_true rfl, Nat.le_of_ble_eq_true rfl⟩) ?_
  refine r_ifz_eq (tgt := 16) hx hb dJ5_charAt_4 (by decide) (fun c2 => ?_) (fun c2 => ?_)
  · have h := it_neg h (by rw [c2]; decide)
    cases h
  · have h := it_pos h (by rw [c2])
    refine lv_aload_n hx hb dJ5_charAt_7 rfl (lv_at hl 0 rfl) ?_
    refine r_get hx hb hts hown hS h_x0 rfl in_J5 0 (by decide) q760 rfl (v := .ref x0r0) rfl dJ5_charAt_8 ?_
    refine lv_iload_n hx hb dJ5_charAt_11 rfl (lv_at hl 1 rfl) ?_
    obtain ⟨o3, eo3, h⟩ := bind_step h
    refine r_cp (r_runS (rest := []) (As := [.ref x0r0, .int x1]) hC 2 (m_J25_charAt x0r0  x0r0n x0r0c x1 o3 eo3) q1148 q1149 q67 q1150 hd_J25_charAt rfl ⟨Nat.le_of_ble_eq_true rfl, Nat.le_of_ble_eq_true rfl⟩ hS ⟨h_x0r0, l_x0r0⟩ hl.1 rfl (Nat.le_of_ble_eq_true rfl) dJ5_charAt_12 ⟨Nat.le_of_ble_eq_true rfl, Nat.le_of_ble_eq_true rfl⟩) ?_
    obtain ⟨b4, h⟩ := ask_step h
    obtain rfl := Option.some.inj h
    rw [eQ]
    exact p_zret hx hb hr hlk (narOK b4) dJ5_charAt_15 rfl

abbrev R_J18_cf_N : Room := { frames := 0, cells := 0, slots := 0, locals := 0 }
/- its function: f_J18_checkFromToIndex -/
theorem hd_J18_cf_N : Hd yJ18_checkFromToIndex 4 := by unfold Hd; decide +kernel
set_option maxHeartbeats 4000000 in
set_option maxRecDepth 100000 in
theorem m_J18_cf_N {l : Launch} {D : DD}   (x0 : Int32) (x1 : Int32) (x2 : Int32) (r : Int32) (h : f_J18_checkFromToIndex x0 x1 x2 = some r) : MP l D yJ18_checkFromToIndex cJ18_checkFromToIndex 4 (some .int) 0 0 [.int x0, .int x1, .int x2, .null] NoPre (some (.int r)) := by
  refine MP.start (by decide +kernel) (Nat.le_of_ble_eq_true rfl) ?_
  intro p e s m below meth c ls hC hS hp hl
  obtain ⟨hx, hb, hr, hlk, hml, hown, hts, hnm⟩ := id hC
  have hl : lv_has ls 4 [(0, .int x0), (1, .int x1), (2, .int x2), (3, .null)] := hl
  unfold f_J18_checkFromToIndex at h
  have hS0 := hS
  obtain ⟨A, eA⟩ : ∃ A : Array Value, A = [.int x0, .int x1, .int x2, .null].toArray := ⟨_, rfl⟩
  rw [← eA] at hC hts ⊢
  obtain ⟨Q, eQ⟩ : ∃ Q : State → Prop, Q = MQ below (PQ (some (.int r))) A s 0 0 (fun _ => False) := ⟨_, rfl⟩
  show W p l e R_J18_cf_N s m A below meth c s.heap [] 0 0 _ _
  rw [← eQ]
  refine lv_iload_n hx hb dJ18_checkFromToIndex_0 rfl (lv_at hl 0 rfl) ?_
  obtain ⟨K1, eK1, h⟩ := lt_step h
  have HK1 : ∀  (h : K1 () = some r)  (ls : Array Slot) (hl : lv_has ls 4 [(0, .int x0), (1, .int x1), (2, .int x2), (3, .null)]), W p l e R_J18_cf_N s m A below meth c s.heap [] 0 0 Q (F0 m 14 ls []) := by
    intro h  ls hl
    subst eK1
    refine lv_aload_nN hx hb dJ18_checkFromToIndex_14 rfl (lv_at hl 3 rfl) ?_
    refine lv_iload_n hx hb dJ18_checkFromToIndex_15 rfl (lv_at hl 0 rfl) ?_
    refine lv_iload_n hx hb dJ18_checkFromToIndex_16 rfl (lv_at hl 1 rfl) ?_
    refine lv_iload_n hx hb dJ18_checkFromToIndex_17 rfl (lv_at hl 2 rfl) ?_
    cases h
  clear eK1
  refine lv_if_lt (tgt := 14) hx hb dJ18_checkFromToIndex_1 (by decide) (fun c2 => ?_) (fun c2 => ?_)
  · have h := it_pos h c2
    exact HK1  h  ls (lv_sub hl [0, 1, 2, 3] rfl)
  · have h := it_neg h c2
    refine lv_iload_n hx hb dJ18_checkFromToIndex_4 rfl (lv_at hl 0 rfl) ?_
    refine lv_iload_n hx hb dJ18_checkFromToIndex_5 rfl (lv_at hl 1 rfl) ?_
    refine lv_icmp_gt (tgt := 14) hx hb dJ18_checkFromToIndex_6 (by decide) (fun c3 => ?_) (fun c3 => ?_)
    · have h := it_pos h c3
      exact HK1  h  ls (lv_sub hl [0, 1, 2, 3] rfl)
    · have h := it_neg h c3
      refine lv_iload_n hx hb dJ18_checkFromToIndex_9 rfl (lv_at hl 1 rfl) ?_
      refine lv_iload_n hx hb dJ18_checkFromToIndex_10 rfl (lv_at hl 2 rfl) ?_
      refine lv_icmp_le (tgt := 22) hx hb dJ18_checkFromToIndex_11 (by decide) (fun c4 => ?_) (fun c4 => ?_)
      · have h := it_pos h c4
        refine lv_iload_n hx hb dJ18_checkFromToIndex_22 rfl (lv_at hl 0 rfl) ?_
        obtain rfl := Option.some.inj h
        rw [eQ]
        exact p_iret hx hb hr hlk dJ18_checkFromToIndex_23 rfl
      · have h := it_neg h c4
        exact HK1  h  ls (lv_sub hl [0, 1, 2, 3] rfl)

abbrev R_J18_cf_R : Room := { frames := 0, cells := 0, slots := 0, locals := 0 }
/- its function: f_J18_checkFromToIndex -/
theorem hd_J18_cf_R : Hd yJ18_checkFromToIndex 4 := by unfold Hd; decide +kernel
set_option maxHeartbeats 4000000 in
set_option maxRecDepth 100000 in
theorem m_J18_cf_R {l : Launch} {D : DD} (x3 : Nat)  (x0 : Int32) (x1 : Int32) (x2 : Int32) (r : Int32) (h : f_J18_checkFromToIndex x0 x1 x2 = some r) : MP l D yJ18_checkFromToIndex cJ18_checkFromToIndex 4 (some .int) 0 0 [.int x0, .int x1, .int x2, .ref x3] NoPre (some (.int r)) := by
  refine MP.start (by decide +kernel) (Nat.le_of_ble_eq_true rfl) ?_
  intro p e s m below meth c ls hC hS hp hl
  obtain ⟨hx, hb, hr, hlk, hml, hown, hts, hnm⟩ := id hC
  have hl : lv_has ls 4 [(0, .int x0), (1, .int x1), (2, .int x2), (3, .ref x3)] := hl
  unfold f_J18_checkFromToIndex at h
  have hS0 := hS
  obtain ⟨A, eA⟩ : ∃ A : Array Value, A = [.int x0, .int x1, .int x2, .ref x3].toArray := ⟨_, rfl⟩
  rw [← eA] at hC hts ⊢
  obtain ⟨Q, eQ⟩ : ∃ Q : State → Prop, Q = MQ below (PQ (some (.int r))) A s 0 0 (fun _ => False) := ⟨_, rfl⟩
  show W p l e R_J18_cf_R s m A below meth c s.heap [] 0 0 _ _
  rw [← eQ]
  refine lv_iload_n hx hb dJ18_checkFromToIndex_0 rfl (lv_at hl 0 rfl) ?_
  obtain ⟨K1, eK1, h⟩ := lt_step h
  have HK1 : ∀  (h : K1 () = some r)  (ls : Array Slot) (hl : lv_has ls 4 [(0, .int x0), (1, .int x1), (2, .int x2), (3, .ref x3)]), W p l e R_J18_cf_R s m A below meth c s.heap [] 0 0 Q (F0 m 14 ls []) := by
    intro h  ls hl
    subst eK1
    refine lv_aload_n hx hb dJ18_checkFromToIndex_14 rfl (lv_at hl 3 rfl) ?_
    refine lv_iload_n hx hb dJ18_checkFromToIndex_15 rfl (lv_at hl 0 rfl) ?_
    refine lv_iload_n hx hb dJ18_checkFromToIndex_16 rfl (lv_at hl 1 rfl) ?_
    refine lv_iload_n hx hb dJ18_checkFromToIndex_17 rfl (lv_at hl 2 rfl) ?_
    cases h
  clear eK1
  refine lv_if_lt (tgt := 14) hx hb dJ18_checkFromToIndex_1 (by decide) (fun c2 => ?_) (fun c2 => ?_)
  · have h := it_pos h c2
    exact HK1  h  ls (lv_sub hl [0, 1, 2, 3] rfl)
  · have h := it_neg h c2
    refine lv_iload_n hx hb dJ18_checkFromToIndex_4 rfl (lv_at hl 0 rfl) ?_
    refine lv_iload_n hx hb dJ18_checkFromToIndex_5 rfl (lv_at hl 1 rfl) ?_
    refine lv_icmp_gt (tgt := 14) hx hb dJ18_checkFromToIndex_6 (by decide) (fun c3 => ?_) (fun c3 => ?_)
    · have h := it_pos h c3
      exact HK1  h  ls (lv_sub hl [0, 1, 2, 3] rfl)
    · have h := it_neg h c3
      refine lv_iload_n hx hb dJ18_checkFromToIndex_9 rfl (lv_at hl 1 rfl) ?_
      refine lv_iload_n hx hb dJ18_checkFromToIndex_10 rfl (lv_at hl 2 rfl) ?_
      refine lv_icmp_le (tgt := 22) hx hb dJ18_checkFromToIndex_11 (by decide) (fun c4 => ?_) (fun c4 => ?_)
      · have h := it_pos h c4
        refine lv_iload_n hx hb dJ18_checkFromToIndex_22 rfl (lv_at hl 0 rfl) ?_
        obtain rfl := Option.some.inj h
        rw [eQ]
        exact p_iret hx hb hr hlk dJ18_checkFromToIndex_23 rfl
      · have h := it_neg h c4
        exact HK1  h  ls (lv_sub hl [0, 1, 2, 3] rfl)

abbrev R_J5_checkBoundsBeginEnd : Room := { frames := 1, cells := 0, slots := 0, locals := 23 }
noncomputable def f_J5_checkBoundsBeginEnd (x0 : Int32) (x1 : Int32) (x2 : Int32) : Option (Unit) :=
  Option.bind (f_J18_checkFromToIndex x0 x1 x2) fun o3 =>
  some ()
theorem hd_J5_checkBoundsBeginEnd : Hd yJ5_checkBoundsBeginEnd 3 := by unfold Hd; decide +kernel
set_option maxHeartbeats 4000000 in
set_option maxRecDepth 100000 in
theorem m_J5_checkBoundsBeginEnd {l : Launch} {D : DD}   (x0 : Int32) (x1 : Int32) (x2 : Int32) (r : Unit) (h : f_J5_checkBoundsBeginEnd x0 x1 x2 = some r) : MP l D yJ5_checkBoundsBeginEnd cJ5_checkBoundsBeginEnd 3 none 1 23 [.int x0, .int x1, .int x2] NoPre none := by
  refine MP.start (by decide +kernel) (Nat.le_of_ble_eq_true rfl) ?_
  intro p e s m below meth c ls hC hS hp hl
  obtain ⟨hx, hb, hr, hlk, hml, hown, hts, hnm⟩ := id hC
  have hl : lv_has ls 3 [(0, .int x0), (1, .int x1), (2, .int x2)] := hl
  unfold f_J5_checkBoundsBeginEnd at h
  have hS0 := hS
  obtain ⟨A, eA⟩ : ∃ A : Array Value, A = [.int x0, .int x1, .int x2].toArray := ⟨_, rfl⟩
  rw [← eA] at hC hts ⊢
  obtain ⟨Q, eQ⟩ : ∃ Q : State → Prop, Q = MQ below (PQ none) A s 0 0 (fun _ => False) := ⟨_, rfl⟩
  show W p l e R_J5_checkBoundsBeginEnd s m A below meth c s.heap [] 0 0 _ _
  rw [← eQ]
  refine lv_iload_n hx hb dJ5_checkBoundsBeginEnd_0 rfl (lv_at hl 0 rfl) ?_
  refine lv_iload_n hx hb dJ5_checkBoundsBeginEnd_1 rfl (lv_at hl 1 rfl) ?_
  refine lv_iload_n hx hb dJ5_checkBoundsBeginEnd_2 rfl (lv_at hl 2 rfl) ?_
  refine r_gets hx hb hts hown hS 20 rfl q619 dJ5_checkBoundsBeginEnd_3 ?_
  obtain ⟨w1, ew1⟩ : ∃ x, x = dQ D := ⟨_, rfl⟩
  rw [← ew1]
  cases w1 with
  | none =>
    show W p l e _ s m _ below meth c _ _ _ _ _ (F0 m _ ls (.null :: _))
    obtain ⟨o3, eo3, h⟩ := bind_step h
    refine r_cp (r_runS (rest := []) (As := [.int x0, .int x1, .int x2, .null]) hC 4 (m_J18_cf_N   x0 x1 x2 o3 eo3) q621 q468 q60 q469 hd_J18_cf_N rfl ⟨Nat.le_of_ble_eq_true rfl, Nat.le_of_ble_eq_true rfl⟩ hS trivial hl.1 rfl (Nat.le_of_ble_eq_true rfl) dJ5_checkBoundsBeginEnd_6 ⟨Nat.le_of_ble_eq_true rfl, Nat.le_of_ble_eq_true rfl⟩) ?_
    refine lv_pop hx hb dJ5_checkBoundsBeginEnd_9 rfl ?_
    obtain rfl := Option.some.inj h
    rw [eQ]
    exact p_vret hx hb hr hlk dJ5_checkBoundsBeginEnd_10
  | some t2 =>
    show W p l e _ s m _ below meth c _ _ _ _ _ (F0 m _ ls (.ref t2 :: _))
    obtain ⟨o3, eo3, h⟩ := bind_step h
    refine r_cp (r_runS (rest := []) (As := [.int x0, .int x1, .int x2, .ref t2]) hC 4 (m_J18_cf_R t2  x0 x1 x2 o3 eo3) q621 q468 q60 q469 hd_J18_cf_R rfl ⟨Nat.le_of_ble_eq_true rfl, Nat.le_of_ble_eq_true rfl⟩ hS trivial hl.1 rfl (Nat.le_of_ble_eq_true rfl) dJ5_checkBoundsBeginEnd_6 ⟨Nat.le_of_ble_eq_true rfl, Nat.le_of_ble_eq_true rfl⟩) ?_
    refine lv_pop hx hb dJ5_checkBoundsBeginEnd_9 rfl ?_
    obtain rfl := Option.some.inj h
    rw [eQ]
    exact p_vret hx hb hr hlk dJ5_checkBoundsBeginEnd_10

abbrev R_J5_init_3 : Room := { frames := 1, cells := 0, slots := 0, locals := 20 }
noncomputable def f_J5_init_3 (x1n : Nat) (x1c : Nat → Int32) : Option (Unit) :=
  some ()
theorem hd_J5_init_3 : Hd yJ5_init_3 2 := by unfold Hd; decide +kernel
set_option maxHeartbeats 4000000 in
set_option maxRecDepth 100000 in
theorem m_J5_init_3 {l : Launch} {D : DD} (x0 : Nat) (x1 : Nat)  (x1n : Nat) (x1c : Nat → Int32) (r : Unit) (h : f_J5_init_3 x1n x1c = some r) : MT l D yJ5_init_3 cJ5_init_3 3 none 1 20 0 0 [.ref x0, .ref x1, .int 0] (fun H => ON D 3 x0 [.null, .int 0, .int 0, .int 0] H ∧ dB D ≤ x0 ∧ aB D x1 x1n x1c H ∧ x1n ≤ 1000000 ∧ x0 ≠ x1) (pV (fun H H' => ON D 3 x0 [.ref x1, .int 0, .int 0, .int 0] H' ∧ Off (fun a => a = x0) H H')) := by
  refine MT.start (by decide +kernel) (Nat.le_of_ble_eq_true rfl) ?_
  intro p e s m below meth c ls hC hS hp hl
  obtain ⟨h_x0, hB_h_x0, h_x1, l_x1, ne_x0_x1⟩ := hp
  obtain ⟨hx, hb, hr, hlk, hml, hown, hts, hnm⟩ := id hC
  have hl : lv_has ls 3 [(0, .ref x0), (1, .ref x1), (2, .int 0)] := hl
  unfold f_J5_init_3 at h
  have hS0 := hS
  obtain ⟨A, eA⟩ : ∃ A : Array Value, A = [.ref x0, .ref x1, .int 0].toArray := ⟨_, rfl⟩
  rw [← eA] at hC hts ⊢
  obtain ⟨Q, eQ⟩ : ∃ Q : State → Prop, Q = MQ below (TQ D (pV (fun H H' => ON D 3 x0 [.ref x1, .int 0, .int 0, .int 0] H' ∧ Off (fun a => a = x0) H H'))) A s 0 0 (fun q => dB D ≤ q) := ⟨_, rfl⟩
  have hF : Off (fun a => a = x0) s.heap s.heap := Off.rf
  show W p l e R_J5_init_3 s m A below meth c s.heap [] 0 0 _ _
  rw [← eQ]
  obtain ⟨H, eH⟩ : ∃ H : Heap, H = s.heap := ⟨_, rfl⟩
  obtain ⟨locs, eLc⟩ : ∃ L : List Loc, L = [] := ⟨_, rfl⟩
  have lt_h_x0 := h_x0.lt
  have lt_h_x1 := h_x1.lt
  rw [← eH, ← eLc]
  have hF : Off (fun a => a = x0) s.heap H := by rw [eH]; exact hF
  rw [← eH] at h_x0
  rw [← eH] at h_x1
  have hS : St D s H locs := by rw [eH, eLc]; exact hS
  refine lv_aload_n hx hb dJ5_init_3_0 rfl (lv_at hl 0 rfl) ?_
  refine r_oinit hC q710 q95 q96 hl.1 dJ5_init_3_1 ⟨Nat.le_of_ble_eq_true rfl, Nat.le_of_ble_eq_true rfl⟩ ?_
  refine lv_aload_n hx hb dJ5_init_3_4 rfl (lv_at hl 0 rfl) ?_
  refine lv_aload_n hx hb dJ5_init_3_5 rfl (lv_at hl 1 rfl) ?_
  refine r_putF hx hb hts hown hS h_x0 hB_h_x0 rfl in_J5 tyJ5 tyJ5_ok nmJ5 0 (Nat.le_of_ble_eq_true rfl) rfl q760 rfl rfl hnm rfl (v := .ref x1) rfl (by rfl) dJ5_init_3_6 (fun H locs hS hO h_x0 => ?_)
  have h_x0 : ON D 3 x0 [.ref x1, .int 0, .int 0, .int 0] H := h_x0
  have h_x1 := h_x1.off hO (Ne.symm ne_x0_x1)
  have hF := hF.fresh hO (fun a ha z => z)
  refine lv_aload_n hx hb dJ5_init_3_9 rfl (lv_at hl 0 rfl) ?_
  refine lv_iload_n hx hb dJ5_init_3_10 rfl (lv_at hl 2 rfl) ?_
  refine r_putF hx hb hts hown hS h_x0 hB_h_x0 rfl in_J5 tyJ5 tyJ5_ok nmJ5 1 (Nat.le_of_ble_eq_true rfl) rfl q761 rfl rfl hnm rfl (v := .int 0) (by decide) (by rfl) dJ5_init_3_11 (fun H locs hS hO h_x0 => ?_)
  have h_x0 : ON D 3 x0 [.ref x1, .int 0, .int 0, .int 0] H := h_x0
  have h_x1 := h_x1.off hO (Ne.symm ne_x0_x1)
  have hF := hF.fresh hO (fun a ha z => z)
  obtain rfl := Option.some.inj h
  rw [eQ]
  exact r_vret hx hb hr hlk hS (Nat.le_of_ble_eq_true rfl) (Nat.le_of_ble_eq_true rfl) dJ5_init_3_14 ⟨rfl, h_x0, hF⟩

abbrev R_J25_newString : Room := { frames := 3, cells := 2, slots := 44, locals := 84 }
noncomputable def f_J25_newString (x0n : Nat) (x0c : Nat → Int32) (x1 : Int32) (x2 : Int32) : Option (Nat × (Nat → Int32)) :=
  (if x2 = 0 then
    none
  else
    lti (x1 + x2) fun v3 =>
    Option.bind (f_J19_copyOfRange x0n x0c x1 v3) fun o4 =>
    Option.bind (f_J5_init_3 o4.1 o4.2) fun o6 =>
    some (o4.1, o4.2)
  )
theorem hd_J25_newString : Hd yJ25_newString 3 := by unfold Hd; decide +kernel
set_option maxHeartbeats 4000000 in
set_option maxRecDepth 100000 in
theorem m_J25_newString {l : Launch} {D : DD} (x0 : Nat)  (x0n : Nat) (x0c : Nat → Int32) (x1 : Int32) (x2 : Int32) (r : Nat × (Nat → Int32)) (h : f_J25_newString x0n x0c x1 x2 = some r) : MT l D yJ25_newString cJ25_newString 3 (some (.object "java/lang/String")) 3 84 2 44 [.ref x0, .int x1, .int x2] (fun H => aB D x0 x0n x0c H ∧ x0n ≤ 1000000) (pR (fun H b H' => ∃ b_0 : Nat, ON D 3 b [.ref b_0, .int 0, .int 0, .int 0] H' ∧ aB D b_0 r.1 r.2 H' ∧ r.1 ≤ 1000000 ∧ H.size ≤ b ∧ b ≠ b_0 ∧ Off (fun _ => False) H H')) := by
  refine MT.start (by decide +kernel) (Nat.le_of_ble_eq_true rfl) ?_
  intro p e s m below meth c ls hC hS hp hl
  obtain ⟨h_x0, l_x0⟩ := hp
  obtain ⟨hx, hb, hr, hlk, hml, hown, hts, hnm⟩ := id hC
  have hl : lv_has ls 3 [(0, .ref x0), (1, .int x1), (2, .int x2)] := hl
  unfold f_J25_newString at h
  have hS0 := hS
  obtain ⟨A, eA⟩ : ∃ A : Array Value, A = [.ref x0, .int x1, .int x2].toArray := ⟨_, rfl⟩
  rw [← eA] at hC hts ⊢
  obtain ⟨Q, eQ⟩ : ∃ Q : State → Prop, Q = MQ below (TQ D (pR (fun H b H' => ∃ b_0 : Nat, ON D 3 b [.ref b_0, .int 0, .int 0, .int 0] H' ∧ aB D b_0 r.1 r.2 H' ∧ r.1 ≤ 1000000 ∧ H.size ≤ b ∧ b ≠ b_0 ∧ Off (fun _ => False) H H'))) A s 2 44 (fun q => dB D ≤ q) := ⟨_, rfl⟩
  have hF : Off (fun _ => False) s.heap s.heap := Off.rf
  show W p l e R_J25_newString s m A below meth c s.heap [] 0 0 _ _
  rw [← eQ]
  obtain ⟨H, eH⟩ : ∃ H : Heap, H = s.heap := ⟨_, rfl⟩
  obtain ⟨locs, eLc⟩ : ∃ L : List Loc, L = [] := ⟨_, rfl⟩
  have lt_h_x0 := h_x0.lt
  rw [← eH, ← eLc]
  have hF : Off (fun _ => False) s.heap H := by rw [eH]; exact hF
  rw [← eH] at h_x0
  have hS : St D s H locs := by rw [eH, eLc]; exact hS
  refine lv_iload_n hx hb dJ25_newString_0 rfl (lv_at hl 2 rfl) ?_
  refine lv_if_ne (tgt := 7) hx hb dJ25_newString_1 (by decide) (fun c1 => ?_) (fun c1 => ?_)
  · have h := it_neg h c1
    refine r_new (k := 3) hx hb hts hown hS rfl in_J5 tyJ5 tyJ5_ok q1095 q151 q45 (fs := [.null, .int 0, .int 0, .int 0]) rfl (by decide) (Nat.le_of_ble_eq_true rfl) (Nat.le_of_ble_eq_true rfl) dJ25_newString_7 (fun ad2 H eq_ad2 hS hE had2 z_ad2 hB_had2 => ?_)
    have gad2 : s.heap.size ≤ ad2 := by have := hF.1; omega
    have ne_h_x0_had2 : x0 ≠ ad2 := by have := h_x0.lt; omega
    have h_x0 := h_x0.ext hE
    have hF := hF.trans (hE.mono (fun _ _ z => z.elim))
    refine lv_dup hx hb dJ25_newString_10 rfl ?_
    refine lv_aload_n hx hb dJ25_newString_11 rfl (lv_at hl 0 rfl) ?_
    refine lv_iload_n hx hb dJ25_newString_12 rfl (lv_at hl 1 rfl) ?_
    refine lv_iload_n hx hb dJ25_newString_13 rfl (lv_at hl 1 rfl) ?_
    refine lv_iload_n hx hb dJ25_newString_14 rfl (lv_at hl 2 rfl) ?_
    obtain ⟨v3, ev3, h⟩ := lti_step h
    refine r_iadd hx hb ev3 dJ25_newString_15 ?_
    obtain ⟨o4, eo4, h⟩ := bind_step h
    refine r_cr (r_runS (rest := [.ref ad2, .ref ad2]) (As := [.ref x0, .int x1, .int v3]) hC 3 (m_J19_copyOfRange x0  x0n x0c x1 v3 o4 eo4) q1096 q726 q61 q727 hd_J19_copyOfRange rfl ⟨Nat.le_of_ble_eq_true rfl, Nat.le_of_ble_eq_true rfl⟩ hS ⟨h_x0, l_x0⟩ hl.1 rfl (Nat.le_of_ble_eq_true rfl) dJ25_newString_16 ⟨Nat.le_of_ble_eq_true rfl, Nat.le_of_ble_eq_true rfl⟩) hS (fun ad5 H locs hp hS hz => ?_)
    obtain ⟨had5, lo4_1, frad5, hO⟩ := hp
    have ne_h_x0_had5 : x0 ≠ ad5 := Nat.ne_of_lt (Nat.lt_of_lt_of_le h_x0.lt frad5)
    have ne_had2_had5 : ad2 ≠ ad5 := Nat.ne_of_lt (Nat.lt_of_lt_of_le had2.lt frad5)
    have gad5 : s.heap.size ≤ ad5 := Nat.le_trans hF.1 frad5
    have hB_had5 : dB D ≤ ad5 := by have := hS0.1.2.2.1; omega
    have h_x0 := h_x0.ext hO
    have had2 := had2.ext hO
    have hF := hF.trans (hO.mono (fun _ _ z => z.elim))
    refine lv_iconst (v := 0) hx hb dJ25_newString_19 (by decide) ?_
    obtain ⟨o6, eo6, h⟩ := bind_step h
    refine r_cv (r_runI (rest := [.ref ad2]) (As := [.ref ad5, .int 0]) hC 2 (m_J5_init_3 ad2 ad5  o4.1 o4.2 o6 eo6) q1097 q1098 q45 q1099 rfl hd_J5_init_3 rfl ⟨Nat.le_of_ble_eq_true rfl, Nat.le_of_ble_eq_true rfl⟩ hS ⟨had2, hB_had2, had5, lo4_1, ne_had2_had5⟩ hl.1 rfl (Nat.le_of_ble_eq_true rfl) dJ25_newString_20 ⟨Nat.le_of_ble_eq_true rfl, Nat.le_of_ble_eq_true rfl⟩) hS (fun H locs hp hS hz => ?_)
    obtain ⟨had2, hO⟩ := hp
    have h_x0 := h_x0.off hO ne_h_x0_had2
    have had5 := had5.off hO (Ne.symm ne_had2_had5)
    have hF := hF.fresh hO (fun a ha z => absurd (z ▸ ha) (Nat.not_lt.mpr gad2))
    obtain rfl := Option.some.inj h
    rw [eQ]
    exact r_aret hx hb hr (Or.inl ⟨_, rfl⟩) hlk hS (Nat.le_of_ble_eq_true rfl) (Nat.le_of_ble_eq_true rfl) dJ25_newString_23 ⟨_, rfl, ad5, had2, had5, lo4_1, gad2, ne_had2_had5, hF⟩
  · have h := it_pos h c1
    cases h

abbrev R_J5_substring_2 : Room := { frames := 4, cells := 2, slots := 44, locals := 106 }
noncomputable def f_J5_substring_2 (x0r0n : Nat) (x0r0c : Nat → Int32) (x1 : Int32) (x2 : Int32) : Option (Nat × (Nat → Int32)) :=
  Option.bind (f_J5_length x0r0n x0r0c) fun o1 =>
  Option.bind (f_J5_checkBoundsBeginEnd x1 x2 o1) fun o2 =>
  lt (fun (_u : Unit) =>
  lti (x2 - x1) fun v4 =>
  Option.bind (f_J5_isLatin1 x0r0n x0r0c) fun o5 =>
  (if o5 = true then
    Option.bind (f_J25_newString x0r0n x0r0c x1 v4) fun o7 =>
    some (o7.1, o7.2)
  else
    none
  )
  ) fun K3 =>
  (if x1 = 0 then
    (if x2 = o1 then
      none
    else
      K3 ()
    )
  else
    K3 ()
  )
theorem hd_J5_substring_2 : Hd yJ5_substring_2 2 := by unfold Hd; decide +kernel
set_option maxHeartbeats 4000000 in
set_option maxRecDepth 100000 in
theorem m_J5_substring_2 {l : Launch} {D : DD} (x0 : Nat) (x0r0 : Nat) (x0e2 : Int32) (x0e3 : Int32) (x0r0n : Nat) (x0r0c : Nat → Int32) (x1 : Int32) (x2 : Int32) (r : Nat × (Nat → Int32)) (h : f_J5_substring_2 x0r0n x0r0c x1 x2 = some r) : MT l D yJ5_substring_2 cJ5_substring_2 5 (some (.object "java/lang/String")) 4 106 2 44 [.ref x0, .int x1, .int x2] (fun H => OA D 3 x0 [.ref x0r0, .int 0, .int x0e2, .int x0e3] H ∧ aB D x0r0 x0r0n x0r0c H ∧ x0r0n ≤ 1000000) (pR (fun H b H' => ∃ b_0 : Nat, ON D 3 b [.ref b_0, .int 0, .int 0, .int 0] H' ∧ aB D b_0 r.1 r.2 H' ∧ r.1 ≤ 1000000 ∧ H.size ≤ b ∧ b ≠ b_0 ∧ Off (fun _ => False) H H')) := by
  refine MT.start (by decide +kernel) (Nat.le_of_ble_eq_true rfl) ?_
  intro p e s m below meth c ls hC hS hp hl
  obtain ⟨h_x0, h_x0r0, l_x0r0⟩ := hp
  obtain ⟨hx, hb, hr, hlk, hml, hown, hts, hnm⟩ := id hC
  have hl : lv_has ls 5 [(0, .ref x0), (1, .int x1), (2, .int x2)] := hl
  unfold f_J5_substring_2 at h
  have hS0 := hS
  obtain ⟨A, eA⟩ : ∃ A : Array Value, A = [.ref x0, .int x1, .int x2].toArray := ⟨_, rfl⟩
  rw [← eA] at hC hts ⊢
  obtain ⟨Q, eQ⟩ : ∃ Q : State → Prop, Q = MQ below (TQ D (pR (fun H b H' => ∃ b_0 : Nat, ON D 3 b [.ref b_0, .int 0, .int 0, .int 0] H' ∧ aB D b_0 r.1 r.2 H' ∧ r.1 ≤ 1000000 ∧ H.size ≤ b ∧ b ≠ b_0 ∧ Off (fun _ => False) H H'))) A s 2 44 (fun q => dB D ≤ q) := ⟨_, rfl⟩
  have hF : Off (fun _ => False) s.heap s.heap := Off.rf
  show W p l e R_J5_substring_2 s m A below meth c s.heap [] 0 0 _ _
  rw [← eQ]
  obtain ⟨H, eH⟩ : ∃ H : Heap, H = s.heap := ⟨_, rfl⟩
  obtain ⟨locs, eLc⟩ : ∃ L : List Loc, L = [] := ⟨_, rfl⟩
  have lt_h_x0 := h_x0.lt
  have lt_h_x0r0 := h_x0r0.lt
  rw [← eH, ← eLc]
  have hF : Off (fun _ => False) s.heap H := by rw [eH]; exact hF
  rw [← eH] at h_x0
  rw [← eH] at h_x0r0
  have hS : St D s H locs := by rw [eH, eLc]; exact hS
  refine lv_aload_n hx hb dJ5_substring_2_0 rfl (lv_at hl 0 rfl) ?_
  obtain ⟨o1, eo1, h⟩ := bind_step h
  refine r_cp (r_runV (rest := []) (As := []) hC 0 (m_J5_length x0 x0r0 x0e2 x0e3 x0r0n x0r0c o1 eo1) q1044 q632 q633 q45 q634 (OA.recv hS h_x0 (C := RJ5) rfl) hd_J5_length rfl ⟨Nat.le_of_ble_eq_true rfl, Nat.le_of_ble_eq_true rfl⟩ hS ⟨h_x0, h_x0r0, l_x0r0⟩ hl.1 rfl (Nat.le_of_ble_eq_true rfl) dJ5_substring_2_1 ⟨Nat.le_of_ble_eq_true rfl, Nat.le_of_ble_eq_true rfl⟩) ?_
  refine lv_istore_n (lv' := [(3, .int o1), (0, .ref x0), (1, .int x1), (2, .int x2)]) hx hb dJ5_substring_2_4 rfl hl (by decide) rfl (fun ls hl => ?_)
  refine lv_iload_n hx hb dJ5_substring_2_5 rfl (lv_at hl 2 rfl) ?_
  refine lv_iload_n hx hb dJ5_substring_2_6 rfl (lv_at hl 3 rfl) ?_
  refine lv_iload_n hx hb dJ5_substring_2_7 rfl (lv_at hl 0 rfl) ?_
  obtain ⟨o2, eo2, h⟩ := bind_step h
  refine r_cpv (r_runS (rest := []) (As := [.int x1, .int x2, .int o1]) hC 3 (m_J5_checkBoundsBeginEnd   x1 x2 o1 o2 eo2) q1090 q617 q45 q618 hd_J5_checkBoundsBeginEnd rfl ⟨Nat.le_of_ble_eq_true rfl, Nat.le_of_ble_eq_true rfl⟩ hS trivial hl.1 rfl (Nat.le_of_ble_eq_true rfl) dJ5_substring_2_8 ⟨Nat.le_of_ble_eq_true rfl, Nat.le_of_ble_eq_true rfl⟩) ?_
  refine lv_iload_n hx hb dJ5_substring_2_11 rfl (lv_at hl 2 rfl) ?_
  obtain ⟨K3, eK3, h⟩ := lt_step h
  have HK3 : ∀  (h : K3 () = some r) (H : Heap) (locs : List Loc) (hS : St D s H locs) (hF : Off (fun _ => False) s.heap H) (h_x0 : OA D 3 x0 [.ref x0r0, .int 0, .int x0e2, .int x0e3] H) (h_x0r0 : aB D x0r0 x0r0n x0r0c H) (ls : Array Slot) (hl : lv_has ls 5 [(0, .ref x0), (1, .int x1), (2, .int x2)]), W p l e R_J5_substring_2 s m A below meth c H locs 0 0 Q (F0 m 22 ls []) := by
    intro h H locs hS hF h_x0 h_x0r0 ls hl
    subst eK3
    refine lv_iload_n hx hb dJ5_substring_2_22 rfl (lv_at hl 2 rfl) ?_
    refine lv_iload_n hx hb dJ5_substring_2_23 rfl (lv_at hl 1 rfl) ?_
    obtain ⟨v4, ev4, h⟩ := lti_step h
    refine r_isub hx hb ev4 dJ5_substring_2_24 ?_
    refine lv_istore (lv' := [(4, .int v4), (0, .ref x0), (1, .int x1), (2, .int x2)]) hx hb dJ5_substring_2_25 hl (by decide) rfl (fun ls hl => ?_)
    refine lv_aload_n hx hb dJ5_substring_2_27 rfl (lv_at hl 1 rfl) ?_
    obtain ⟨o5, eo5, h⟩ := bind_step h
    refine r_cp (r_runV (rest := []) (As := []) hC 0 (m_J5_isLatin1 x0 x0r0 x0e2 x0e3 x0r0n x0r0c o5 eo5) q1040 q1041 q1042 q45 q1043 (OA.recv hS h_x0 (C := RJ5) rfl) hd_J5_isLatin1 rfl ⟨Nat.le_of_ble_eq_true rfl, Nat.le_of_ble_eq_true rfl⟩ hS ⟨h_x0, h_x0r0, l_x0r0⟩ hl.1 rfl (Nat.le_of_ble_eq_true rfl) dJ5_substring_2_28 ⟨Nat.le_of_ble_eq_true rfl, Nat.le_of_ble_eq_true rfl⟩) ?_
    refine r_ifz_eq (tgt := 47) hx hb dJ5_substring_2_31 (by decide) (fun c6 => ?_) (fun c6 => ?_)
    · have h := it_neg h (by rw [c6]; decide)
      cases h
    · have h := it_pos h (by rw [c6])
      refine lv_aload_n hx hb dJ5_substring_2_34 rfl (lv_at hl 1 rfl) ?_
      refine r_get hx hb hts hown hS h_x0 rfl in_J5 0 (by decide) q760 rfl (v := .ref x0r0) rfl dJ5_substring_2_35 ?_
      refine lv_iload_n hx hb dJ5_substring_2_38 rfl (lv_at hl 2 rfl) ?_
      refine lv_iload hx hb dJ5_substring_2_39 (lv_at hl 0 rfl) ?_
      obtain ⟨o7, eo7, h⟩ := bind_step h
      refine r_cr (r_runS (rest := []) (As := [.ref x0r0, .int x1, .int v4]) hC 3 (m_J25_newString x0r0  x0r0n x0r0c x1 v4 o7 eo7) q1091 q1092 q67 q1093 hd_J25_newString rfl ⟨Nat.le_of_ble_eq_true rfl, Nat.le_of_ble_eq_true rfl⟩ hS ⟨h_x0r0, l_x0r0⟩ hl.1 rfl (Nat.le_of_ble_eq_true rfl) dJ5_substring_2_41 ⟨Nat.le_of_ble_eq_true rfl, Nat.le_of_ble_eq_true rfl⟩) hS (fun ad8 H locs hp hS hz => ?_)
      obtain ⟨ad9, had8, had9, lo7_1, frad8, ne_ad8_ad9, hO⟩ := hp
      have ne_h_x0_had8 : x0 ≠ ad8 := Nat.ne_of_lt (Nat.lt_of_lt_of_le h_x0.lt frad8)
      have ne_h_x0r0_had8 : x0r0 ≠ ad8 := Nat.ne_of_lt (Nat.lt_of_lt_of_le h_x0r0.lt frad8)
      have gad8 : s.heap.size ≤ ad8 := Nat.le_trans hF.1 frad8
      have hB_had8 : dB D ≤ ad8 := by have := hS0.1.2.2.1; omega
      have h_x0 := h_x0.ext hO
      have h_x0r0 := h_x0r0.ext hO
      have hF := hF.trans (hO.mono (fun _ _ z => z.elim))
      refine lv_goto (tgt := 57) hx hb dJ5_substring_2_44 (by decide) ?_
      obtain rfl := Option.some.inj h
      rw [eQ]
      exact r_aret hx hb hr (Or.inl ⟨_, rfl⟩) hlk hS (Nat.le_of_ble_eq_true rfl) (Nat.le_of_ble_eq_true rfl) dJ5_substring_2_57 ⟨_, rfl, ad9, had8, had9, lo7_1, gad8, ne_ad8_ad9, hF⟩
  clear eK3
  refine lv_if_ne (tgt := 22) hx hb dJ5_substring_2_12 (by decide) (fun c10 => ?_) (fun c10 => ?_)
  · have h := it_neg h c10
    exact HK3  h H locs hS hF h_x0 h_x0r0 ls (lv_sub hl [1, 2, 3] rfl)
  · have h := it_pos h c10
    refine lv_iload_n hx hb dJ5_substring_2_15 rfl (lv_at hl 3 rfl) ?_
    refine lv_iload_n hx hb dJ5_substring_2_16 rfl (lv_at hl 0 rfl) ?_
    refine lv_icmp_ne (tgt := 22) hx hb dJ5_substring_2_17 (by decide) (fun c11 => ?_) (fun c11 => ?_)
    · have h := it_neg h c11
      exact HK3  h H locs hS hF h_x0 h_x0r0 ls (lv_sub hl [1, 2, 3] rfl)
    · have h := it_pos h c11
      cases h

abbrev R_J5_substring : Room := { frames := 5, cells := 2, slots := 44, locals := 130 }
noncomputable def f_J5_substring (x0r0n : Nat) (x0r0c : Nat → Int32) (x1 : Int32) : Option (Nat × (Nat → Int32)) :=
  Option.bind (f_J5_length x0r0n x0r0c) fun o1 =>
  Option.bind (f_J5_substring_2 x0r0n x0r0c x1 o1) fun o2 =>
  some (o2.1, o2.2)
theorem hd_J5_substring : Hd yJ5_substring 1 := by unfold Hd; decide +kernel
set_option maxHeartbeats 4000000 in
set_option maxRecDepth 100000 in
theorem m_J5_substring {l : Launch} {D : DD} (x0 : Nat) (x0r0 : Nat) (x0e2 : Int32) (x0e3 : Int32) (x0r0n : Nat) (x0r0c : Nat → Int32) (x1 : Int32) (r : Nat × (Nat → Int32)) (h : f_J5_substring x0r0n x0r0c x1 = some r) : MT l D yJ5_substring cJ5_substring 2 (some (.object "java/lang/String")) 5 130 2 44 [.ref x0, .int x1] (fun H => OA D 3 x0 [.ref x0r0, .int 0, .int x0e2, .int x0e3] H ∧ aB D x0r0 x0r0n x0r0c H ∧ x0r0n ≤ 1000000) (pR (fun H b H' => ∃ b_0 : Nat, ON D 3 b [.ref b_0, .int 0, .int 0, .int 0] H' ∧ aB D b_0 r.1 r.2 H' ∧ r.1 ≤ 1000000 ∧ H.size ≤ b ∧ b ≠ b_0 ∧ Off (fun _ => False) H H')) := by
  refine MT.start (by decide +kernel) (Nat.le_of_ble_eq_true rfl) ?_
  intro p e s m below meth c ls hC hS hp hl
  obtain ⟨h_x0, h_x0r0, l_x0r0⟩ := hp
  obtain ⟨hx, hb, hr, hlk, hml, hown, hts, hnm⟩ := id hC
  have hl : lv_has ls 2 [(0, .ref x0), (1, .int x1)] := hl
  unfold f_J5_substring at h
  have hS0 := hS
  obtain ⟨A, eA⟩ : ∃ A : Array Value, A = [.ref x0, .int x1].toArray := ⟨_, rfl⟩
  rw [← eA] at hC hts ⊢
  obtain ⟨Q, eQ⟩ : ∃ Q : State → Prop, Q = MQ below (TQ D (pR (fun H b H' => ∃ b_0 : Nat, ON D 3 b [.ref b_0, .int 0, .int 0, .int 0] H' ∧ aB D b_0 r.1 r.2 H' ∧ r.1 ≤ 1000000 ∧ H.size ≤ b ∧ b ≠ b_0 ∧ Off (fun _ => False) H H'))) A s 2 44 (fun q => dB D ≤ q) := ⟨_, rfl⟩
  have hF : Off (fun _ => False) s.heap s.heap := Off.rf
  show W p l e R_J5_substring s m A below meth c s.heap [] 0 0 _ _
  rw [← eQ]
  obtain ⟨H, eH⟩ : ∃ H : Heap, H = s.heap := ⟨_, rfl⟩
  obtain ⟨locs, eLc⟩ : ∃ L : List Loc, L = [] := ⟨_, rfl⟩
  have lt_h_x0 := h_x0.lt
  have lt_h_x0r0 := h_x0r0.lt
  rw [← eH, ← eLc]
  have hF : Off (fun _ => False) s.heap H := by rw [eH]; exact hF
  rw [← eH] at h_x0
  rw [← eH] at h_x0r0
  have hS : St D s H locs := by rw [eH, eLc]; exact hS
  refine lv_aload_n hx hb dJ5_substring_0 rfl (lv_at hl 0 rfl) ?_
  refine lv_iload_n hx hb dJ5_substring_1 rfl (lv_at hl 1 rfl) ?_
  refine lv_aload_n hx hb dJ5_substring_2 rfl (lv_at hl 0 rfl) ?_
  obtain ⟨o1, eo1, h⟩ := bind_step h
  refine r_cp (r_runV (rest := [.int x1, .ref x0]) (As := []) hC 0 (m_J5_length x0 x0r0 x0e2 x0e3 x0r0n x0r0c o1 eo1) q1044 q632 q633 q45 q634 (OA.recv hS h_x0 (C := RJ5) rfl) hd_J5_length rfl ⟨Nat.le_of_ble_eq_true rfl, Nat.le_of_ble_eq_true rfl⟩ hS ⟨h_x0, h_x0r0, l_x0r0⟩ hl.1 rfl (Nat.le_of_ble_eq_true rfl) dJ5_substring_3 ⟨Nat.le_of_ble_eq_true rfl, Nat.le_of_ble_eq_true rfl⟩) ?_
  obtain ⟨o2, eo2, h⟩ := bind_step h
  refine r_cr (r_runV (rest := []) (As := [.int x1, .int o1]) hC 2 (m_J5_substring_2 x0 x0r0 x0e2 x0e3 x0r0n x0r0c x1 o1 o2 eo2) q1086 q1087 q1088 q45 q1089 (OA.recv hS h_x0 (C := RJ5) rfl) hd_J5_substring_2 rfl ⟨Nat.le_of_ble_eq_true rfl, Nat.le_of_ble_eq_true rfl⟩ hS ⟨h_x0, h_x0r0, l_x0r0⟩ hl.1 rfl (Nat.le_of_ble_eq_true rfl) dJ5_substring_6 ⟨Nat.le_of_ble_eq_true rfl, Nat.le_of_ble_eq_true rfl⟩) hS (fun ad3 H locs hp hS hz => ?_)
  obtain ⟨ad4, had3, had4, lo2_1, frad3, ne_ad3_ad4, hO⟩ := hp
  have ne_h_x0_had3 : x0 ≠ ad3 := Nat.ne_of_lt (Nat.lt_of_lt_of_le h_x0.lt frad3)
  have ne_h_x0r0_had3 : x0r0 ≠ ad3 := Nat.ne_of_lt (Nat.lt_of_lt_of_le h_x0r0.lt frad3)
  have gad3 : s.heap.size ≤ ad3 := Nat.le_trans hF.1 frad3
  have hB_had3 : dB D ≤ ad3 := by have := hS0.1.2.2.1; omega
  have h_x0 := h_x0.ext hO
  have h_x0r0 := h_x0r0.ext hO
  have hF := hF.trans (hO.mono (fun _ _ z => z.elim))
  obtain rfl := Option.some.inj h
  rw [eQ]
  exact r_aret hx hb hr (Or.inl ⟨_, rfl⟩) hlk hS (Nat.le_of_ble_eq_true rfl) (Nat.le_of_ble_eq_true rfl) dJ5_substring_9 ⟨_, rfl, ad4, had3, had4, lo2_1, gad3, ne_ad3_ad4, hF⟩

abbrev R_J25_equals : Room := { frames := 0, cells := 0, slots := 0, locals := 0 }
noncomputable def f_J25_equals (x0n : Nat) (x0c : Nat → Int32) (x1n : Nat) (x1c : Nat → Int32) : Option (Bool) :=
  (if (nI x0n) = (nI x1n) then
    lt (fun (v2 : Int32) =>
    (show Option (Sum (Int32) (Bool)) from (
    (if (nI x0n) ≤ v2 then
      some (.inr true)
    else
      gd x0n v2 fun i14 =>
      lti (x0c i14) fun v15 =>
      gd x1n v2 fun i16 =>
      lti (x1c i16) fun v17 =>
      (if v15 = v17 then
        lti (v2 + 1) fun v19 =>
        some (.inl v19)
      else
        some (.inr false)
      )
    )
    ))
    ) fun F10 =>
    Option.bind (lp 41 (fun x => F10 x) 0) fun w11 =>
    (some w11)
  else
    some false
  )
theorem hd_J25_equals : Hd yJ25_equals 2 := by unfold Hd; decide +kernel
set_option maxHeartbeats 4000000 in
set_option maxRecDepth 100000 in
theorem m_J25_equals {l : Launch} {D : DD} (x0 : Nat) (x1 : Nat)  (x0n : Nat) (x0c : Nat → Int32) (x1n : Nat) (x1c : Nat → Int32) (r : Bool) (h : f_J25_equals x0n x0c x1n x1c = some r) : MP l D yJ25_equals cJ25_equals 3 (some .boolean) 0 0 [.ref x0, .ref x1] (fun H => aB D x0 x0n x0c H ∧ x0n ≤ 1000000 ∧ aB D x1 x1n x1c H ∧ x1n ≤ 1000000) (some (.int (bI r))) := by
  refine MP.start (by decide +kernel) (Nat.le_of_ble_eq_true rfl) ?_
  intro p e s m below meth c ls hC hS hp hl
  obtain ⟨h_x0, l_x0, h_x1, l_x1⟩ := hp
  obtain ⟨hx, hb, hr, hlk, hml, hown, hts, hnm⟩ := id hC
  have hl : lv_has ls 3 [(0, .ref x0), (1, .ref x1)] := hl
  unfold f_J25_equals at h
  have hS0 := hS
  obtain ⟨A, eA⟩ : ∃ A : Array Value, A = [.ref x0, .ref x1].toArray := ⟨_, rfl⟩
  rw [← eA] at hC hts ⊢
  obtain ⟨Q, eQ⟩ : ∃ Q : State → Prop, Q = MQ below (PQ (some (.int (bI r)))) A s 0 0 (fun _ => False) := ⟨_, rfl⟩
  show W p l e R_J25_equals s m A below meth c s.heap [] 0 0 _ _
  rw [← eQ]
  refine lv_aload_n hx hb dJ25_equals_0 rfl (lv_at hl 0 rfl) ?_
  refine r_alen hx hb hS h_x0 dJ25_equals_1 ?_
  refine lv_aload_n hx hb dJ25_equals_2 rfl (lv_at hl 1 rfl) ?_
  refine r_alen hx hb hS h_x1 dJ25_equals_3 ?_
  refine lv_icmp_ne (tgt := 34) hx hb dJ25_equals_4 (by decide) (fun c1 => ?_) (fun c1 => ?_)
  · have h := it_neg h c1
    refine lv_iconst (v := 0) hx hb dJ25_equals_34 (by decide) ?_
    obtain rfl := Option.some.inj h
    rw [eQ]
    exact p_zret hx hb hr hlk (by decide) dJ25_equals_35 rfl
  · have h := it_pos h c1
    refine lv_iconst (v := 0) hx hb dJ25_equals_7 (by decide) ?_
    refine lv_istore_n (lv' := [(2, .int 0), (0, .ref x0), (1, .ref x1)]) hx hb dJ25_equals_8 rfl hl (by decide) rfl (fun ls hl => ?_)
    obtain ⟨F10, eF10, h⟩ := lt_step h
    obtain ⟨w11, ew11, h⟩ := bind_step h
    have HL : ∀ (n : Nat) (v2 : Int32) (w11 : Bool) (hk0 : lp n (fun x => F10 x) v2 = some w11)   (ls : Array Slot) (hl : lv_has ls 3 [(0, .ref x0), (1, .ref x1), (2, .int v2)]) (KR : ∀ rt, w11 = rt → rt = r), W p l e R_J25_equals s m A below meth c s.heap [] 0 0 Q (F0 m 9 ls []) := by
      intro n
      induction n with
      | zero => intro v2 w11 hk0   ls hl KR; exact lp_zero hk0
      | succ n ih =>
        intro v2 w11 hk0   ls hl KR
        obtain ⟨z12, hz, hk⟩ := lp_step hk0
        have h := (congrFun (eF10) v2).symm.trans hz
        refine lv_iload_n hx hb dJ25_equals_9 rfl (lv_at hl 2 rfl) ?_
        refine lv_aload_n hx hb dJ25_equals_10 rfl (lv_at hl 0 rfl) ?_
        refine r_alen hx hb hS h_x0 dJ25_equals_11 ?_
        refine lv_icmp_ge (tgt := 32) hx hb dJ25_equals_12 (by decide) (fun c13 => ?_) (fun c13 => ?_)
        · have h := it_pos h c13
          refine lv_iconst (v := 1) hx hb dJ25_equals_32 (by decide) ?_
          obtain rfl := Option.some.inj h
          have h := congrArg some (KR _ hk.symm)
          obtain rfl := Option.some.inj h
          rw [eQ]
          exact p_zret hx hb hr hlk (by decide) dJ25_equals_33 rfl
        · have h := it_neg h c13
          refine lv_aload_n hx hb dJ25_equals_15 rfl (lv_at hl 0 rfl) ?_
          refine lv_iload_n hx hb dJ25_equals_16 rfl (lv_at hl 2 rfl) ?_
          obtain ⟨i14, xi14, h⟩ := gd_step (nl0 l_x0) h
          refine r_bald hx hb hS h_x0 i14 xi14 dJ25_equals_17 ?_
          obtain ⟨v15, ev15, h⟩ := lti_step h
          refine r_nmI ev15 ?_
          refine lv_aload_n hx hb dJ25_equals_18 rfl (lv_at hl 1 rfl) ?_
          refine lv_iload_n hx hb dJ25_equals_19 rfl (lv_at hl 2 rfl) ?_
          obtain ⟨i16, xi16, h⟩ := gd_step (nl0 l_x1) h
          refine r_bald hx hb hS h_x1 i16 xi16 dJ25_equals_20 ?_
          obtain ⟨v17, ev17, h⟩ := lti_step h
          refine r_nmI ev17 ?_
          refine lv_icmp_eq (tgt := 26) hx hb dJ25_equals_21 (by decide) (fun c18 => ?_) (fun c18 => ?_)
          · have h := it_pos h c18
            obtain ⟨v19, ev19, h⟩ := lti_step h
            refine lv_iinc (v := v19) (lv' := [(2, .int v19), (0, .ref x0), (1, .ref x1)]) hx hb dJ25_equals_26 hl (k := 2) rfl (by rw [ev19]; rfl) (by decide) rfl (fun ls hl => ?_)
            refine lv_goto (tgt := 9) hx hb dJ25_equals_29 (by decide) ?_
            obtain rfl := Option.some.inj h
            exact ih v19 w11 hk   ls (lv_sub hl [1, 2, 0] rfl) KR
          · have h := it_neg h c18
            refine lv_iconst (v := 0) hx hb dJ25_equals_24 (by decide) ?_
            obtain rfl := Option.some.inj h
            have h := congrArg some (KR _ hk.symm)
            obtain rfl := Option.some.inj h
            rw [eQ]
            exact p_zret hx hb hr hlk (by decide) dJ25_equals_25 rfl
    clear eF10
    refine HL 41 0 w11 ew11   ls (lv_sub hl [1, 2, 0] rfl) (fun rt eR => ?_)
    subst eR
    exact Option.some.inj h

abbrev R_J5_equals : Room := { frames := 1, cells := 0, slots := 0, locals := 22 }
noncomputable def f_J5_equals (x0r0n : Nat) (x0r0c : Nat → Int32) (x1r0n : Nat) (x1r0c : Nat → Int32) : Option (Bool) :=
  Option.bind (f_J25_equals x0r0n x0r0c x1r0n x1r0c) fun o5 =>
  (if o5 = true then
    some true
  else
    some false
  )
theorem hd_J5_equals : Hd yJ5_equals 1 := by unfold Hd; decide +kernel
set_option maxHeartbeats 4000000 in
set_option maxRecDepth 100000 in
theorem m_J5_equals {l : Launch} {D : DD} (x0 : Nat) (x0r0 : Nat) (x1 : Nat) (x1r0 : Nat) (x0e2 : Int32) (x0e3 : Int32) (x1e2 : Int32) (x1e3 : Int32) (x0r0n : Nat) (x0r0c : Nat → Int32) (x1r0n : Nat) (x1r0c : Nat → Int32) (r : Bool) (h : f_J5_equals x0r0n x0r0c x1r0n x1r0c = some r) : MP l D yJ5_equals cJ5_equals 3 (some .boolean) 1 22 [.ref x0, .ref x1] (fun H => OA D 3 x0 [.ref x0r0, .int 0, .int x0e2, .int x0e3] H ∧ aB D x0r0 x0r0n x0r0c H ∧ x0r0n ≤ 1000000 ∧ OA D 3 x1 [.ref x1r0, .int 0, .int x1e2, .int x1e3] H ∧ aB D x1r0 x1r0n x1r0c H ∧ x1r0n ≤ 1000000 ∧ x0 ≠ x1) (some (.int (bI r))) := by
  refine MP.start (by decide +kernel) (Nat.le_of_ble_eq_true rfl) ?_
  intro p e s m below meth c ls hC hS hp hl
  obtain ⟨h_x0, h_x0r0, l_x0r0, h_x1, h_x1r0, l_x1r0, ne_x0_x1⟩ := hp
  obtain ⟨hx, hb, hr, hlk, hml, hown, hts, hnm⟩ := id hC
  have hl : lv_has ls 3 [(0, .ref x0), (1, .ref x1)] := hl
  unfold f_J5_equals at h
  have hS0 := hS
  obtain ⟨A, eA⟩ : ∃ A : Array Value, A = [.ref x0, .ref x1].toArray := ⟨_, rfl⟩
  rw [← eA] at hC hts ⊢
  obtain ⟨Q, eQ⟩ : ∃ Q : State → Prop, Q = MQ below (PQ (some (.int (bI r)))) A s 0 0 (fun _ => False) := ⟨_, rfl⟩
  show W p l e R_J5_equals s m A below meth c s.heap [] 0 0 _ _
  rw [← eQ]
  refine lv_aload_n hx hb dJ5_equals_0 rfl (lv_at hl 0 rfl) ?_
  refine lv_aload_n hx hb dJ5_equals_1 rfl (lv_at hl 1 rfl) ?_
  refine lv_acmp_ne (rx := (some x0)) (ry := (some x1)) (tgt := 7) hx hb dJ5_equals_2 (by decide) (fun c1 => ?_) (fun c1 => ?_)
  rotate_left
  · exact absurd c1 (fun z => ne_x0_x1 (Option.some.inj z))
  refine lv_aload_n hx hb dJ5_equals_7 rfl (lv_at hl 1 rfl) ?_
  refine va_instS hx hb hown (hts _ q1444) (hS.1.known (k := 3) rfl).2 (OA.recv hS h_x1 rfl) dJ5_equals_8 ?_
  refine lv_if_eq (tgt := 54) hx hb dJ5_equals_11 (by decide) (fun c2 => ?_) (fun c2 => ?_)
  · exact absurd c2 (by decide)
  refine lv_aload_n hx hb dJ5_equals_14 rfl (lv_at hl 1 rfl) ?_
  refine va_castS hx hb hown (hts _ q1444) (hS.1.known (k := 3) rfl).2 (OA.recv hS h_x1 rfl) dJ5_equals_15 ?_
  refine lv_astore_n (lv' := [(2, .ref x1), (0, .ref x0), (1, .ref x1)]) hx hb dJ5_equals_18 rfl hl (by decide) rfl (fun ls hl => ?_)
  refine r_gets hx hb hts hown hS 13 rfl q639 dJ5_equals_19 ?_
  refine lv_if_eq (tgt := 36) hx hb dJ5_equals_22 (by decide) (fun c3 => ?_) (fun c3 => ?_)
  · exact absurd c3 (by decide)
  refine lv_aload_n hx hb dJ5_equals_25 rfl (lv_at hl 1 rfl) ?_
  refine r_get hx hb hts hown hS h_x0 rfl in_J5 1 (by decide) q761 rfl (v := .int 0) rfl dJ5_equals_26 ?_
  refine lv_aload_n hx hb dJ5_equals_29 rfl (lv_at hl 0 rfl) ?_
  refine r_get hx hb hts hown hS h_x1 rfl in_J5 1 (by decide) q761 rfl (v := .int 0) rfl dJ5_equals_30 ?_
  refine lv_icmp_ne (tgt := 54) hx hb dJ5_equals_33 (by decide) (fun c4 => ?_) (fun c4 => ?_)
  · exact absurd c4 (by decide)
  refine lv_aload_n hx hb dJ5_equals_36 rfl (lv_at hl 1 rfl) ?_
  refine r_get hx hb hts hown hS h_x0 rfl in_J5 0 (by decide) q760 rfl (v := .ref x0r0) rfl dJ5_equals_37 ?_
  refine lv_aload_n hx hb dJ5_equals_40 rfl (lv_at hl 0 rfl) ?_
  refine r_get hx hb hts hown hS h_x1 rfl in_J5 0 (by decide) q760 rfl (v := .ref x1r0) rfl dJ5_equals_41 ?_
  obtain ⟨o5, eo5, h⟩ := bind_step h
  refine r_cp (r_runS (rest := []) (As := [.ref x0r0, .ref x1r0]) hC 2 (m_J25_equals x0r0 x1r0  x0r0n x0r0c x1r0n x1r0c o5 eo5) q1445 q1446 q67 q1447 hd_J25_equals rfl ⟨Nat.le_of_ble_eq_true rfl, Nat.le_of_ble_eq_true rfl⟩ hS ⟨h_x0r0, l_x0r0, h_x1r0, l_x1r0⟩ hl.1 rfl (Nat.le_of_ble_eq_true rfl) dJ5_equals_44 ⟨Nat.le_of_ble_eq_true rfl, Nat.le_of_ble_eq_true rfl⟩) ?_
  refine r_ifz_eq (tgt := 54) hx hb dJ5_equals_47 (by decide) (fun c6 => ?_) (fun c6 => ?_)
  · have h := it_neg h (by rw [c6]; decide)
    refine lv_iconst (v := 0) hx hb dJ5_equals_54 (by decide) ?_
    obtain rfl := Option.some.inj h
    rw [eQ]
    exact p_zret hx hb hr hlk (by decide) dJ5_equals_55 rfl
  · have h := it_pos h (by rw [c6])
    refine lv_iconst (v := 1) hx hb dJ5_equals_50 (by decide) ?_
    refine lv_goto (tgt := 55) hx hb dJ5_equals_51 (by decide) ?_
    obtain rfl := Option.some.inj h
    rw [eQ]
    exact p_zret hx hb hr hlk (by decide) dJ5_equals_55 rfl

