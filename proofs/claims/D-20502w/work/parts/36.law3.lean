/-! the law's methods with texts; by tools/gen36.py -/
abbrev R_X0_part : Room := { frames := 6, cells := 2, slots := 44, locals := 151 }
noncomputable def f_X0_part (x0r0n : Nat) (x0r0c : Nat → Int32) (x1 : Int32) : Option (Int64) :=
  lt (fun (v1 : Int32) (v2 : Int32) =>
  (show Option (Sum (Int32 × Int32) (Int32)) from (
  (if x1 ≤ v2 then
    some (.inr v1)
  else
    Option.bind (f_J5_indexOf x0r0n x0r0c 32 v1) fun o12 =>
    lti (o12 + 1) fun v13 =>
    lti (v2 + 1) fun v14 =>
    some (.inl (v13, v14))
  )
  ))
  ) fun F8 =>
  Option.bind (lp 9 (fun x => F8 x.1 x.2) (0, 0)) fun w9 =>
  Option.bind (f_J5_indexOf x0r0n x0r0c 32 w9) fun o15 =>
  (if 0 ≤ o15 then
    Option.bind (f_J5_substring_2 x0r0n x0r0c w9 o15) fun o17 =>
    Option.bind (f_J27_parseLong o17.1 o17.2) fun o20 =>
    some o20
  else
    Option.bind (f_J5_substring x0r0n x0r0c w9) fun o21 =>
    Option.bind (f_J27_parseLong o21.1 o21.2) fun o24 =>
    some o24
  )
theorem hd_X0_part : Hd yX0_part 2 := by unfold Hd; decide +kernel
set_option maxHeartbeats 4000000 in
set_option maxRecDepth 100000 in
theorem m_X0_part {l : Launch} {D : DD} (x0 : Nat) (x0r0 : Nat) (x0e2 : Int32) (x0e3 : Int32) (x0r0n : Nat) (x0r0c : Nat → Int32) (x1 : Int32) (r : Int64) (h : f_X0_part x0r0n x0r0c x1 = some r) : MT l D yX0_part cX0_part 4 (some .long) 6 151 2 44 [.ref x0, .int x1] (fun H => OA D 3 x0 [.ref x0r0, .int 0, .int x0e2, .int x0e3] H ∧ aB D x0r0 x0r0n x0r0c H ∧ x0r0n ≤ 1000000) (pL (fun H b H' => b = r ∧ Off (fun _ => False) H H')) := by
  refine MT.start (by decide +kernel) (Nat.le_of_ble_eq_true rfl) ?_
  intro p e s m below meth c ls hC hS hp hl
  obtain ⟨h_x0, h_x0r0, l_x0r0⟩ := hp
  obtain ⟨hx, hb, hr, hlk, hml, hown, hts, hnm⟩ := id hC
  have hl : lv_has ls 4 [(0, .ref x0), (1, .int x1)] := hl
  unfold f_X0_part at h
  have hS0 := hS
  obtain ⟨A, eA⟩ : ∃ A : Array Value, A = [.ref x0, .int x1].toArray := ⟨_, rfl⟩
  rw [← eA] at hC hts ⊢
  obtain ⟨Q, eQ⟩ : ∃ Q : State → Prop, Q = MQ below (TQ D (pL (fun H b H' => b = r ∧ Off (fun _ => False) H H'))) A s 2 44 (fun q => dB D ≤ q) := ⟨_, rfl⟩
  have hF : Off (fun _ => False) s.heap s.heap := Off.rf
  show W p l e R_X0_part s m A below meth c s.heap [] 0 0 _ _
  rw [← eQ]
  obtain ⟨H, eH⟩ : ∃ H : Heap, H = s.heap := ⟨_, rfl⟩
  obtain ⟨locs, eLc⟩ : ∃ L : List Loc, L = [] := ⟨_, rfl⟩
  have lt_h_x0 := h_x0.lt
  have lt_h_x0r0 := h_x0r0.lt
  rw [← eH, ← eLc]
  have hF : Off (fun _ => False) s.heap H := by rw [eH]; exact hF
  rw [← eH] at h_x0
  rw [← eH] at h_x0r0
  have hS : St D s H locs := by rw [eH, eLc]; exact hS
  refine lv_iconst (v := 0) hx hb dX0_part_0 (by decide) ?_
  refine lv_istore_n (lv' := [(2, .int 0), (0, .ref x0), (1, .int x1)]) hx hb dX0_part_1 rfl hl (by decide) rfl (fun ls hl => ?_)
  refine lv_iconst (v := 0) hx hb dX0_part_2 (by decide) ?_
  refine lv_istore_n (lv' := [(3, .int 0), (2, .int 0), (0, .ref x0), (1, .int x1)]) hx hb dX0_part_3 rfl hl (by decide) rfl (fun ls hl => ?_)
  obtain ⟨F8, eF8, h⟩ := lt_step h
  obtain ⟨w9, ew9, h⟩ := bind_step h
  have HL : ∀ (n : Nat) (v1 : Int32) (v2 : Int32) (w9 : Int32) (hk0 : lp n (fun x => F8 x.1 x.2) (v1, v2) = some w9)  (H : Heap) (locs : List Loc) (hS : St D s H locs) (hF : Off (fun _ => False) s.heap H) (h_x0 : OA D 3 x0 [.ref x0r0, .int 0, .int x0e2, .int x0e3] H) (h_x0r0 : aB D x0r0 x0r0n x0r0c H) (ls : Array Slot) (hl : lv_has ls 4 [(0, .ref x0), (1, .int x1), (2, .int v1), (3, .int v2)]) (K25 : ∀ (H : Heap) (locs : List Loc) (hS : St D s H locs) (hF : Off (fun _ => False) s.heap H) (h_x0 : OA D 3 x0 [.ref x0r0, .int 0, .int x0e2, .int x0e3] H) (h_x0r0 : aB D x0r0 x0r0n x0r0c H) (ls : Array Slot) (hl : lv_has ls 4 [(0, .ref x0), (2, .int w9)]), W p l e R_X0_part s m A below meth c H locs 0 0 Q (F0 m 25 ls [])), W p l e R_X0_part s m A below meth c H locs 0 0 Q (F0 m 4 ls []) := by
    intro n
    induction n with
    | zero => intro v1 v2 w9 hk0  H locs hS hF h_x0 h_x0r0 ls hl K25; exact lp_zero hk0
    | succ n ih =>
      intro v1 v2 w9 hk0  H locs hS hF h_x0 h_x0r0 ls hl K25
      obtain ⟨z10, hz, hk⟩ := lp_step hk0
      have h := (congrFun (congrFun (eF8) v1) v2).symm.trans hz
      refine lv_iload_n hx hb dX0_part_4 rfl (lv_at hl 3 rfl) ?_
      refine lv_iload_n hx hb dX0_part_5 rfl (lv_at hl 1 rfl) ?_
      refine lv_icmp_ge (tgt := 25) hx hb dX0_part_6 (by decide) (fun c11 => ?_) (fun c11 => ?_)
      · have h := it_pos h c11
        obtain rfl := Option.some.inj h
        obtain rfl := id hk
        exact K25 H locs hS hF h_x0 h_x0r0 ls (lv_sub hl [0, 2] rfl)
      · have h := it_neg h c11
        refine lv_aload_n hx hb dX0_part_9 rfl (lv_at hl 0 rfl) ?_
        refine lv_bipush (v := 32) hx hb dX0_part_10 (by decide) ?_
        refine lv_iload_n hx hb dX0_part_12 rfl (lv_at hl 2 rfl) ?_
        obtain ⟨o12, eo12, h⟩ := bind_step h
        refine r_cp (r_runV (rest := []) (As := [.int 32, .int v1]) hC 2 (m_J5_indexOf x0 x0r0 x0e2 x0e3 x0r0n x0r0c 32 v1 o12 eo12) q1036 q1037 q1038 q45 q1039 (OA.recv hS h_x0 (C := RJ5) rfl) hd_J5_indexOf rfl ⟨Nat.le_of_ble_eq_true rfl, Nat.le_of_ble_eq_true rfl⟩ hS ⟨h_x0, h_x0r0, l_x0r0⟩ hl.1 rfl (Nat.le_of_ble_eq_true rfl) dX0_part_13 ⟨Nat.le_of_ble_eq_true rfl, Nat.le_of_ble_eq_true rfl⟩) ?_
        refine lv_iconst (v := 1) hx hb dX0_part_16 (by decide) ?_
        obtain ⟨v13, ev13, h⟩ := lti_step h
        refine r_iadd hx hb ev13 dX0_part_17 ?_
        refine lv_istore_n (lv' := [(2, .int v13), (0, .ref x0), (1, .int x1), (3, .int v2)]) hx hb dX0_part_18 rfl hl (by decide) rfl (fun ls hl => ?_)
        obtain ⟨v14, ev14, h⟩ := lti_step h
        refine lv_iinc (v := v14) (lv' := [(3, .int v14), (2, .int v13), (0, .ref x0), (1, .int x1)]) hx hb dX0_part_19 hl (k := 3) rfl (by rw [ev14]; rfl) (by decide) rfl (fun ls hl => ?_)
        refine lv_goto (tgt := 4) hx hb dX0_part_22 (by decide) ?_
        obtain rfl := Option.some.inj h
        exact ih v13 v14 w9 hk  H locs hS hF h_x0 h_x0r0 ls (lv_sub hl [2, 3, 1, 0] rfl) K25
  clear eF8
  refine HL 9 0 0 w9 ew9  H locs hS hF h_x0 h_x0r0 ls (lv_sub hl [2, 3, 1, 0] rfl) (fun  H locs hS hF h_x0 h_x0r0 ls hl => ?_)
  refine lv_aload_n hx hb dX0_part_25 rfl (lv_at hl 0 rfl) ?_
  refine lv_bipush (v := 32) hx hb dX0_part_26 (by decide) ?_
  refine lv_iload_n hx hb dX0_part_28 rfl (lv_at hl 1 rfl) ?_
  obtain ⟨o15, eo15, h⟩ := bind_step h
  refine r_cp (r_runV (rest := []) (As := [.int 32, .int w9]) hC 2 (m_J5_indexOf x0 x0r0 x0e2 x0e3 x0r0n x0r0c 32 w9 o15 eo15) q1036 q1037 q1038 q45 q1039 (OA.recv hS h_x0 (C := RJ5) rfl) hd_J5_indexOf rfl ⟨Nat.le_of_ble_eq_true rfl, Nat.le_of_ble_eq_true rfl⟩ hS ⟨h_x0, h_x0r0, l_x0r0⟩ hl.1 rfl (Nat.le_of_ble_eq_true rfl) dX0_part_29 ⟨Nat.le_of_ble_eq_true rfl, Nat.le_of_ble_eq_true rfl⟩) ?_
  refine lv_istore_n (lv' := [(3, .int o15), (0, .ref x0), (2, .int w9)]) hx hb dX0_part_32 rfl hl (by decide) rfl (fun ls hl => ?_)
  refine lv_iload_n hx hb dX0_part_33 rfl (lv_at hl 0 rfl) ?_
  refine lv_if_ge (tgt := 45) hx hb dX0_part_34 (by decide) (fun c16 => ?_) (fun c16 => ?_)
  · have h := it_pos h c16
    refine lv_aload_n hx hb dX0_part_45 rfl (lv_at hl 1 rfl) ?_
    refine lv_iload_n hx hb dX0_part_46 rfl (lv_at hl 2 rfl) ?_
    refine lv_iload_n hx hb dX0_part_47 rfl (lv_at hl 0 rfl) ?_
    obtain ⟨o17, eo17, h⟩ := bind_step h
    refine r_cr (r_runV (rest := []) (As := [.int w9, .int o15]) hC 2 (m_J5_substring_2 x0 x0r0 x0e2 x0e3 x0r0n x0r0c w9 o15 o17 eo17) q1109 q1087 q1088 q45 q1089 (OA.recv hS h_x0 (C := RJ5) rfl) hd_J5_substring_2 rfl ⟨Nat.le_of_ble_eq_true rfl, Nat.le_of_ble_eq_true rfl⟩ hS ⟨h_x0, h_x0r0, l_x0r0⟩ hl.1 rfl (Nat.le_of_ble_eq_true rfl) dX0_part_48 ⟨Nat.le_of_ble_eq_true rfl, Nat.le_of_ble_eq_true rfl⟩) hS (fun ad18 H locs hp hS hz => ?_)
    obtain ⟨ad19, had18, had19, lo17_1, frad18, ne_ad18_ad19, hO⟩ := hp
    have ne_h_x0_had18 : x0 ≠ ad18 := Nat.ne_of_lt (Nat.lt_of_lt_of_le h_x0.lt frad18)
    have ne_h_x0r0_had18 : x0r0 ≠ ad18 := Nat.ne_of_lt (Nat.lt_of_lt_of_le h_x0r0.lt frad18)
    have gad18 : s.heap.size ≤ ad18 := Nat.le_trans hF.1 frad18
    have hB_had18 : dB D ≤ ad18 := by have := hS0.1.2.2.1; omega
    have h_x0 := h_x0.ext hO
    have h_x0r0 := h_x0r0.ext hO
    have hF := hF.trans (hO.mono (fun _ _ z => z.elim))
    obtain ⟨o20, eo20, h⟩ := bind_step h
    refine r_cp (r_runS (rest := []) (As := [.ref ad18]) hC 1 (m_J27_parseLong ad18 ad19 0 0 o17.1 o17.2 o20 eo20) q1110 q1111 q69 q1112 hd_J27_parseLong rfl ⟨Nat.le_of_ble_eq_true rfl, Nat.le_of_ble_eq_true rfl⟩ hS ⟨had18.OA, had19, lo17_1⟩ hl.1 rfl (Nat.le_of_ble_eq_true rfl) dX0_part_51 ⟨Nat.le_of_ble_eq_true rfl, Nat.le_of_ble_eq_true rfl⟩) ?_
    obtain rfl := Option.some.inj h
    rw [eQ]
    exact r_lret hx hb hr hlk hS (Nat.le_of_ble_eq_true rfl) (Nat.le_of_ble_eq_true rfl) dX0_part_54 ⟨_, rfl, rfl, hF⟩
  · have h := it_neg h c16
    refine lv_aload_n hx hb dX0_part_37 rfl (lv_at hl 1 rfl) ?_
    refine lv_iload_n hx hb dX0_part_38 rfl (lv_at hl 2 rfl) ?_
    obtain ⟨o21, eo21, h⟩ := bind_step h
    refine r_cr (r_runV (rest := []) (As := [.int w9]) hC 1 (m_J5_substring x0 x0r0 x0e2 x0e3 x0r0n x0r0c w9 o21 eo21) q1082 q1083 q1084 q45 q1085 (OA.recv hS h_x0 (C := RJ5) rfl) hd_J5_substring rfl ⟨Nat.le_of_ble_eq_true rfl, Nat.le_of_ble_eq_true rfl⟩ hS ⟨h_x0, h_x0r0, l_x0r0⟩ hl.1 rfl (Nat.le_of_ble_eq_true rfl) dX0_part_39 ⟨Nat.le_of_ble_eq_true rfl, Nat.le_of_ble_eq_true rfl⟩) hS (fun ad22 H locs hp hS hz => ?_)
    obtain ⟨ad23, had22, had23, lo21_1, frad22, ne_ad22_ad23, hO⟩ := hp
    have ne_h_x0_had22 : x0 ≠ ad22 := Nat.ne_of_lt (Nat.lt_of_lt_of_le h_x0.lt frad22)
    have ne_h_x0r0_had22 : x0r0 ≠ ad22 := Nat.ne_of_lt (Nat.lt_of_lt_of_le h_x0r0.lt frad22)
    have gad22 : s.heap.size ≤ ad22 := Nat.le_trans hF.1 frad22
    have hB_had22 : dB D ≤ ad22 := by have := hS0.1.2.2.1; omega
    have h_x0 := h_x0.ext hO
    have h_x0r0 := h_x0r0.ext hO
    have hF := hF.trans (hO.mono (fun _ _ z => z.elim))
    refine lv_goto (tgt := 51) hx hb dX0_part_42 (by decide) ?_
    obtain ⟨o24, eo24, h⟩ := bind_step h
    refine r_cp (r_runS (rest := []) (As := [.ref ad22]) hC 1 (m_J27_parseLong ad22 ad23 0 0 o21.1 o21.2 o24 eo24) q1110 q1111 q69 q1112 hd_J27_parseLong rfl ⟨Nat.le_of_ble_eq_true rfl, Nat.le_of_ble_eq_true rfl⟩ hS ⟨had22.OA, had23, lo21_1⟩ hl.1 rfl (Nat.le_of_ble_eq_true rfl) dX0_part_51 ⟨Nat.le_of_ble_eq_true rfl, Nat.le_of_ble_eq_true rfl⟩) ?_
    obtain rfl := Option.some.inj h
    rw [eQ]
    exact r_lret hx hb hr hlk hS (Nat.le_of_ble_eq_true rfl) (Nat.le_of_ble_eq_true rfl) dX0_part_54 ⟨_, rfl, rfl, hF⟩

abbrev R_X0_areDigits : Room := { frames := 7, cells := 11, slots := 260, locals := 174 }
noncomputable def f_X0_areDigits (x0r0r0c : Nat → UInt64) (x0r0r1c : Nat → UInt64) (x0r0r2c : Nat → Int32) (x0r0f3 : Int32) (x0r0f4 : Int32) (x0r0f5 : Int32) (x0r0f6 : Int32) (x1 : Int32) (x2 : Int64) : Option (Bool) :=
  Option.bind (f_X1_heightText x0r0r0c x0r0r1c x0r0r2c x0r0f3 x0r0f4 x0r0f5 x0r0f6 x1) fun o1 =>
  Option.bind (f_X0_part o1.1 o1.2 0) fun o4 =>
  lti (o4.toInt32) fun v5 =>
  Option.bind (f_X0_part o1.1 o1.2 1) fun o6 =>
  lti (o6.toInt32) fun v7 =>
  Option.bind (f_X1_first x0r0r0c x0r0r1c x0r0r2c x0r0f3 x0r0f4 x0r0f5 x0r0f6 x1 30) fun o8 =>
  lti (v7 - 1023) fun v9 =>
  Option.bind (f_X0_part o1.1 o1.2 2) fun o10 =>
  lti (o8 >>> (10 &&& 31)) fun v11 =>
  ltl (v11.toInt64) fun v12 =>
  lti (lg_cmp o10 v12) fun v13 =>
  lt (fun (v14 : Bool) =>
  lt (fun (v16 : Bool) (v17 : Int32) =>
  (show Option (Sum (Bool × Int32) (Bool)) from (
  (if 30 ≤ v17 then
    some (.inr v16)
  else
    lt (fun (v32 : Bool) =>
    lti (v17 + 4) fun v34 =>
    some (.inl (v32, v34))
    ) fun K33 =>
    lt (fun (_u : Unit) =>
    K33 false
    ) fun K35 =>
    (if v16 = true then
      Option.bind (f_X1_first x0r0r0c x0r0r1c x0r0r2c x0r0f3 x0r0f4 x0r0f5 x0r0f6 x1 v17) fun o37 =>
      lti (30 - v17) fun v38 =>
      lti (o8 >>> (v38 &&& 31)) fun v39 =>
      (if o37 = v39 then
        K33 true
      else
        K35 ()
      )
    else
      K35 ()
    )
  )
  ))
  ) fun F28 =>
  Option.bind (lp 9 (fun x => F28 x.1 x.2) (v14, 0)) fun w29 =>
  (if v7 = 0 then
    (if w29 = true then
      lti (lg_cmp x2 0) fun v76 =>
      (if v76 = 0 then
        (if o8 = 0 then
          some true
        else
          some false
        )
      else
        some false
      )
    else
      some false
    )
  else
    lt (fun (v42 : Int64) =>
    lt (fun (v44 : Int64) =>
    (if w29 = true then
      (if v9 ≤ (-18) then
        some false
      else
        (if 18 ≤ v9 then
          some false
        else
          (if v5 = 0 then
            lti (lg_cmp v42 x2) fun v57 =>
            (if 0 < v57 then
              some false
            else
              lti (lg_cmp x2 v44) fun v59 =>
              (if 0 < v59 then
                some false
              else
                some true
              )
            )
          else
            ltl (-v44) fun v50 =>
            ltl ((v50 - 1 : Int64)) fun v51 =>
            lti (lg_cmp v51 x2) fun v52 =>
            (if 0 < v52 then
              some false
            else
              ltl (-v42) fun v54 =>
              lti (lg_cmp x2 v54) fun v55 =>
              (if 0 < v55 then
                some false
              else
                some true
              )
            )
          )
        )
      )
    else
      some false
    )
    ) fun K45 =>
    (if 0 ≤ v9 then
      ltl (o8.toInt64) fun v62 =>
      ltl ((1073741824 + v62 : Int64)) fun v63 =>
      ltl ((v63 + 1 : Int64)) fun v64 =>
      ltl ((v64 : Int64) <<< ((v9 : Int32).toInt64 &&& 63)) fun v65 =>
      ltl ((v65 - 1 : Int64)) fun v66 =>
      K45 v66
    else
      K45 v42
    )
    ) fun K43 =>
    (if 0 ≤ v9 then
      ltl (o8.toInt64) fun v68 =>
      ltl ((1073741824 + v68 : Int64)) fun v69 =>
      ltl ((v69 : Int64) <<< ((v9 : Int32).toInt64 &&& 63)) fun v70 =>
      K43 v70
    else
      ltl (o8.toInt64) fun v71 =>
      ltl ((1073741824 + v71 : Int64)) fun v72 =>
      lti (-v9) fun v73 =>
      ltl ((v72 : Int64) >>> ((v73 : Int32).toInt64 &&& 63)) fun v74 =>
      K43 v74
    )
  )
  ) fun K15 =>
  lt (fun (_u : Unit) =>
  K15 false
  ) fun K79 =>
  (if v13 = 0 then
    Option.bind (f_X1_upper x0r0r0c x0r0r1c x0r0r2c x0r0f3 x0r0f4 x0r0f5 x0r0f6 x1) fun o81 =>
    lti (v5 <<< (31 &&& 31)) fun v82 =>
    lti (v7 <<< (20 &&& 31)) fun v83 =>
    lti (v82 ||| v83) fun v84 =>
    lti (o8 >>> (10 &&& 31)) fun v85 =>
    lti (v84 ||| v85) fun v86 =>
    (if o81 = v86 then
      K15 true
    else
      K79 ()
    )
  else
    K79 ()
  )
theorem hd_X0_areDigits : Hd yX0_areDigits 2 := by unfold Hd; decide +kernel
set_option maxHeartbeats 4000000 in
set_option maxRecDepth 100000 in
theorem m_X0_areDigits {l : Launch} {D : DD} (x0 : Nat) (x0r0 : Nat) (x0r0r0 : Nat) (x0r0r1 : Nat) (x0r0r2 : Nat)  (x0r0r0c : Nat → UInt64) (x0r0r1c : Nat → UInt64) (x0r0r2c : Nat → Int32) (x0r0f3 : Int32) (x0r0f4 : Int32) (x0r0f5 : Int32) (x0r0f6 : Int32) (x1 : Int32) (x2 : Int64) (r : Bool) (h : f_X0_areDigits x0r0r0c x0r0r1c x0r0r2c x0r0f3 x0r0f4 x0r0f5 x0r0f6 x1 x2 = some r) : MT l D yX0_areDigits cX0_areDigits 14 (some .boolean) 7 174 11 260 [.ref x0, .int x1, .long x2] (fun H => OA D 1 x0 [.ref x0r0] H ∧ ON D 0 x0r0 [.ref x0r0r0, .ref x0r0r1, .ref x0r0r2, .int x0r0f3, .int x0r0f4, .int x0r0f5, .int x0r0f6] H ∧ aD D x0r0r0 8 x0r0r0c H ∧ aD D x0r0r1 8 x0r0r1c H ∧ aZ D x0r0r2 8 x0r0r2c H) (pZ (fun H b H' => b = r ∧ Off (fun _ => False) H H')) := by
  refine MT.start (by decide +kernel) (Nat.le_of_ble_eq_true rfl) ?_
  intro p e s m below meth c ls hC hS hp hl
  obtain ⟨h_x0, h_x0r0, h_x0r0r0, h_x0r0r1, h_x0r0r2⟩ := hp
  obtain ⟨hx, hb, hr, hlk, hml, hown, hts, hnm⟩ := id hC
  have hl : lv_has ls 14 [(0, .ref x0), (1, .int x1), (2, .long x2)] := hl
  unfold f_X0_areDigits at h
  have hS0 := hS
  obtain ⟨A, eA⟩ : ∃ A : Array Value, A = [.ref x0, .int x1, .long x2].toArray := ⟨_, rfl⟩
  rw [← eA] at hC hts ⊢
  obtain ⟨Q, eQ⟩ : ∃ Q : State → Prop, Q = MQ below (TQ D (pZ (fun H b H' => b = r ∧ Off (fun _ => False) H H'))) A s 11 260 (fun q => dB D ≤ q) := ⟨_, rfl⟩
  have hF : Off (fun _ => False) s.heap s.heap := Off.rf
  show W p l e R_X0_areDigits s m A below meth c s.heap [] 0 0 _ _
  rw [← eQ]
  obtain ⟨H, eH⟩ : ∃ H : Heap, H = s.heap := ⟨_, rfl⟩
  obtain ⟨locs, eLc⟩ : ∃ L : List Loc, L = [] := ⟨_, rfl⟩
  have lt_h_x0 := h_x0.lt
  have lt_h_x0r0 := h_x0r0.lt
  have lt_h_x0r0r0 := h_x0r0r0.lt
  have lt_h_x0r0r1 := h_x0r0r1.lt
  have lt_h_x0r0r2 := h_x0r0r2.lt
  rw [← eH, ← eLc]
  have hF : Off (fun _ => False) s.heap H := by rw [eH]; exact hF
  rw [← eH] at h_x0
  rw [← eH] at h_x0r0
  rw [← eH] at h_x0r0r0
  rw [← eH] at h_x0r0r1
  rw [← eH] at h_x0r0r2
  have hS : St D s H locs := by rw [eH, eLc]; exact hS
  refine lv_aload_n hx hb dX0_areDigits_0 rfl (lv_at hl 0 rfl) ?_
  refine r_get hx hb hts hown hS h_x0 rfl in_X0 0 (by decide) q936 rfl (v := .ref x0r0) rfl dX0_areDigits_1 ?_
  refine lv_iload_n hx hb dX0_areDigits_4 rfl (lv_at hl 1 rfl) ?_
  obtain ⟨o1, eo1, h⟩ := bind_step h
  refine r_cr (r_runV (rest := []) (As := [.int x1]) hC 1 (m_X1_heightText x0r0 x0r0r0 x0r0r1 x0r0r2  x0r0r0c x0r0r1c x0r0r2c x0r0f3 x0r0f4 x0r0f5 x0r0f6 x1 o1 eo1) q1552 q1553 q1554 q46 q1555 (OA.recv hS h_x0r0.OA (C := RX1) rfl) hd_X1_heightText rfl ⟨Nat.le_of_ble_eq_true rfl, Nat.le_of_ble_eq_true rfl⟩ hS ⟨h_x0r0, h_x0r0r0, h_x0r0r1, h_x0r0r2⟩ hl.1 rfl (Nat.le_of_ble_eq_true rfl) dX0_areDigits_5 ⟨Nat.le_of_ble_eq_true rfl, Nat.le_of_ble_eq_true rfl⟩) hS (fun ad2 H locs hp hS hz => ?_)
  obtain ⟨ad3, had2, had3, lo1_1, frad3, frad2, ne_ad2_ad3, hO⟩ := hp
  have ne_h_x0_had2 : x0 ≠ ad2 := Nat.ne_of_lt (Nat.lt_of_lt_of_le h_x0.lt frad2)
  have ne_h_x0r0_had2 : x0r0 ≠ ad2 := Nat.ne_of_lt (Nat.lt_of_lt_of_le h_x0r0.lt frad2)
  have ne_h_x0r0r0_had2 : x0r0r0 ≠ ad2 := Nat.ne_of_lt (Nat.lt_of_lt_of_le h_x0r0r0.lt frad2)
  have ne_h_x0r0r1_had2 : x0r0r1 ≠ ad2 := Nat.ne_of_lt (Nat.lt_of_lt_of_le h_x0r0r1.lt frad2)
  have ne_h_x0r0r2_had2 : x0r0r2 ≠ ad2 := Nat.ne_of_lt (Nat.lt_of_lt_of_le h_x0r0r2.lt frad2)
  have gad2 : s.heap.size ≤ ad2 := Nat.le_trans hF.1 frad2
  have hB_had2 : dB D ≤ ad2 := by have := hS0.1.2.2.1; omega
  have ne_h_x0_had3 : x0 ≠ ad3 := Nat.ne_of_lt (Nat.lt_of_lt_of_le h_x0.lt frad3)
  have ne_h_x0r0_had3 : x0r0 ≠ ad3 := Nat.ne_of_lt (Nat.lt_of_lt_of_le h_x0r0.lt frad3)
  have ne_h_x0r0r0_had3 : x0r0r0 ≠ ad3 := Nat.ne_of_lt (Nat.lt_of_lt_of_le h_x0r0r0.lt frad3)
  have ne_h_x0r0r1_had3 : x0r0r1 ≠ ad3 := Nat.ne_of_lt (Nat.lt_of_lt_of_le h_x0r0r1.lt frad3)
  have ne_h_x0r0r2_had3 : x0r0r2 ≠ ad3 := Nat.ne_of_lt (Nat.lt_of_lt_of_le h_x0r0r2.lt frad3)
  have gad3 : s.heap.size ≤ ad3 := Nat.le_trans hF.1 frad3
  have hB_had3 : dB D ≤ ad3 := by have := hS0.1.2.2.1; omega
  have h_x0 := h_x0.ext hO
  have h_x0r0 := h_x0r0.ext hO
  have h_x0r0r0 := h_x0r0r0.ext hO
  have h_x0r0r1 := h_x0r0r1.ext hO
  have h_x0r0r2 := h_x0r0r2.ext hO
  have hF := hF.trans (hO.mono (fun _ _ z => z.elim))
  refine lv_astore (lv' := [(4, .ref ad2), (0, .ref x0), (1, .int x1), (2, .long x2)]) hx hb dX0_areDigits_8 hl (by decide) rfl (fun ls hl => ?_)
  refine lv_aload hx hb dX0_areDigits_10 (lv_at hl 0 rfl) ?_
  refine lv_iconst (v := 0) hx hb dX0_areDigits_12 (by decide) ?_
  obtain ⟨o4, eo4, h⟩ := bind_step h
  refine r_cl (r_runS (rest := []) (As := [.ref ad2, .int 0]) hC 2 (m_X0_part ad2 ad3 0 0 o1.1 o1.2 0 o4 eo4) q1033 q1034 q39 q1035 hd_X0_part rfl ⟨Nat.le_of_ble_eq_true rfl, Nat.le_of_ble_eq_true rfl⟩ hS ⟨had2.OA, had3, lo1_1⟩ hl.1 rfl (Nat.le_of_ble_eq_true rfl) dX0_areDigits_13 ⟨Nat.le_of_ble_eq_true rfl, Nat.le_of_ble_eq_true rfl⟩) hS (fun b H locs hp hS hz => ?_)
  obtain ⟨eb_, hO⟩ := hp
  rw [eb_]
  have h_x0 := h_x0.ext hO
  have h_x0r0 := h_x0r0.ext hO
  have h_x0r0r0 := h_x0r0r0.ext hO
  have h_x0r0r1 := h_x0r0r1.ext hO
  have h_x0r0r2 := h_x0r0r2.ext hO
  have had2 := had2.ext hO
  have had3 := had3.ext hO
  have hF := hF.trans (hO.mono (fun _ _ z => z.elim))
  obtain ⟨v5, ev5, h⟩ := lti_step h
  refine r_l2i hx hb ev5 dX0_areDigits_16 ?_
  refine lv_istore (lv' := [(5, .int v5), (4, .ref ad2), (0, .ref x0), (1, .int x1), (2, .long x2)]) hx hb dX0_areDigits_17 hl (by decide) rfl (fun ls hl => ?_)
  refine lv_aload hx hb dX0_areDigits_19 (lv_at hl 1 rfl) ?_
  refine lv_iconst (v := 1) hx hb dX0_areDigits_21 (by decide) ?_
  obtain ⟨o6, eo6, h⟩ := bind_step h
  refine r_cl (r_runS (rest := []) (As := [.ref ad2, .int 1]) hC 2 (m_X0_part ad2 ad3 0 0 o1.1 o1.2 1 o6 eo6) q1033 q1034 q39 q1035 hd_X0_part rfl ⟨Nat.le_of_ble_eq_true rfl, Nat.le_of_ble_eq_true rfl⟩ hS ⟨had2.OA, had3, lo1_1⟩ hl.1 rfl (Nat.le_of_ble_eq_true rfl) dX0_areDigits_22 ⟨Nat.le_of_ble_eq_true rfl, Nat.le_of_ble_eq_true rfl⟩) hS (fun b H locs hp hS hz => ?_)
  obtain ⟨eb_, hO⟩ := hp
  rw [eb_]
  have h_x0 := h_x0.ext hO
  have h_x0r0 := h_x0r0.ext hO
  have h_x0r0r0 := h_x0r0r0.ext hO
  have h_x0r0r1 := h_x0r0r1.ext hO
  have h_x0r0r2 := h_x0r0r2.ext hO
  have had2 := had2.ext hO
  have had3 := had3.ext hO
  have hF := hF.trans (hO.mono (fun _ _ z => z.elim))
  obtain ⟨v7, ev7, h⟩ := lti_step h
  refine r_l2i hx hb ev7 dX0_areDigits_25 ?_
  refine lv_istore (lv' := [(6, .int v7), (5, .int v5), (4, .ref ad2), (0, .ref x0), (1, .int x1), (2, .long x2)]) hx hb dX0_areDigits_26 hl (by decide) rfl (fun ls hl => ?_)
  refine lv_aload_n hx hb dX0_areDigits_28 rfl (lv_at hl 3 rfl) ?_
  refine r_get hx hb hts hown hS h_x0 rfl in_X0 0 (by decide) q936 rfl (v := .ref x0r0) rfl dX0_areDigits_29 ?_
  refine lv_iload_n hx hb dX0_areDigits_32 rfl (lv_at hl 4 rfl) ?_
  refine lv_bipush (v := 30) hx hb dX0_areDigits_33 (by decide) ?_
  obtain ⟨o8, eo8, h⟩ := bind_step h
  refine r_cp (r_runV (rest := []) (As := [.int x1, .int 30]) hC 2 (m_X1_first x0r0 x0r0r0 x0r0r1 x0r0r2  x0r0r0c x0r0r1c x0r0r2c x0r0f3 x0r0f4 x0r0f5 x0r0f6 x1 30 o8 eo8) q1556 q1557 q1558 q46 q1559 (OA.recv hS h_x0r0.OA (C := RX1) rfl) hd_X1_first rfl ⟨Nat.le_of_ble_eq_true rfl, Nat.le_of_ble_eq_true rfl⟩ hS ⟨h_x0r0, h_x0r0r0, h_x0r0r1, h_x0r0r2⟩ hl.1 rfl (Nat.le_of_ble_eq_true rfl) dX0_areDigits_35 ⟨Nat.le_of_ble_eq_true rfl, Nat.le_of_ble_eq_true rfl⟩) ?_
  refine lv_istore (lv' := [(7, .int o8), (6, .int v7), (5, .int v5), (4, .ref ad2), (0, .ref x0), (1, .int x1), (2, .long x2)]) hx hb dX0_areDigits_38 hl (by decide) rfl (fun ls hl => ?_)
  refine lv_iload hx hb dX0_areDigits_40 (lv_at hl 1 rfl) ?_
  refine lv_sipush (v := 1023) hx hb dX0_areDigits_42 (by decide) ?_
  obtain ⟨v9, ev9, h⟩ := lti_step h
  refine r_isub hx hb ev9 dX0_areDigits_45 ?_
  refine lv_istore (lv' := [(8, .int v9), (7, .int o8), (6, .int v7), (5, .int v5), (4, .ref ad2), (0, .ref x0), (1, .int x1), (2, .long x2)]) hx hb dX0_areDigits_46 hl (by decide) rfl (fun ls hl => ?_)
  refine lv_aload hx hb dX0_areDigits_48 (lv_at hl 4 rfl) ?_
  refine lv_iconst (v := 2) hx hb dX0_areDigits_50 (by decide) ?_
  obtain ⟨o10, eo10, h⟩ := bind_step h
  refine r_cl (r_runS (rest := []) (As := [.ref ad2, .int 2]) hC 2 (m_X0_part ad2 ad3 0 0 o1.1 o1.2 2 o10 eo10) q1033 q1034 q39 q1035 hd_X0_part rfl ⟨Nat.le_of_ble_eq_true rfl, Nat.le_of_ble_eq_true rfl⟩ hS ⟨had2.OA, had3, lo1_1⟩ hl.1 rfl (Nat.le_of_ble_eq_true rfl) dX0_areDigits_51 ⟨Nat.le_of_ble_eq_true rfl, Nat.le_of_ble_eq_true rfl⟩) hS (fun b H locs hp hS hz => ?_)
  obtain ⟨eb_, hO⟩ := hp
  rw [eb_]
  have h_x0 := h_x0.ext hO
  have h_x0r0 := h_x0r0.ext hO
  have h_x0r0r0 := h_x0r0r0.ext hO
  have h_x0r0r1 := h_x0r0r1.ext hO
  have h_x0r0r2 := h_x0r0r2.ext hO
  have had2 := had2.ext hO
  have had3 := had3.ext hO
  have hF := hF.trans (hO.mono (fun _ _ z => z.elim))
  refine lv_iload hx hb dX0_areDigits_54 (lv_at hl 1 rfl) ?_
  refine lv_bipush (v := 10) hx hb dX0_areDigits_56 (by decide) ?_
  obtain ⟨v11, ev11, h⟩ := lti_step h
  refine r_ishr hx hb ev11 dX0_areDigits_58 ?_
  obtain ⟨v12, ev12, h⟩ := ltl_step h
  refine r_i2l hx hb ev12 dX0_areDigits_59 ?_
  obtain ⟨v13, ev13, h⟩ := lti_step h
  refine r_lcmp hx hb ev13 dX0_areDigits_60 ?_
  obtain ⟨K15, eK15, h⟩ := lt_step h
  have HK15 : ∀ (v14 : Bool) (h : K15 v14 = some r) (H : Heap) (locs : List Loc) (hS : St D s H locs) (hF : Off (fun _ => False) s.heap H) (h_x0 : OA D 1 x0 [.ref x0r0] H) (h_x0r0 : ON D 0 x0r0 [.ref x0r0r0, .ref x0r0r1, .ref x0r0r2, .int x0r0f3, .int x0r0f4, .int x0r0f5, .int x0r0f6] H) (h_x0r0r0 : aD D x0r0r0 8 x0r0r0c H) (h_x0r0r1 : aD D x0r0r1 8 x0r0r1c H) (h_x0r0r2 : aZ D x0r0r2 8 x0r0r2c H) (ls : Array Slot) (hl : lv_has ls 14 [(0, .ref x0), (1, .int x1), (2, .long x2), (5, .int v5), (6, .int v7), (7, .int o8), (8, .int v9)]), W p l e R_X0_areDigits s m A below meth c H locs 11 260 Q (F0 m 97 ls [.int (bI v14)]) := by
    intro v14 h H locs hS hF h_x0 h_x0r0 h_x0r0r0 h_x0r0r1 h_x0r0r2 ls hl
    subst eK15
    refine lv_istore (lv' := [(9, .int (bI v14)), (0, .ref x0), (1, .int x1), (2, .long x2), (5, .int v5), (6, .int v7), (7, .int o8), (8, .int v9)]) hx hb dX0_areDigits_97 hl (by decide) rfl (fun ls hl => ?_)
    refine lv_iconst (v := 0) hx hb dX0_areDigits_99 (by decide) ?_
    refine lv_istore (lv' := [(10, .int 0), (9, .int (bI v14)), (0, .ref x0), (1, .int x1), (2, .long x2), (5, .int v5), (6, .int v7), (7, .int o8), (8, .int v9)]) hx hb dX0_areDigits_100 hl (by decide) rfl (fun ls hl => ?_)
    obtain ⟨F28, eF28, h⟩ := lt_step h
    obtain ⟨w29, ew29, h⟩ := bind_step h
    have HL : ∀ (n : Nat) (v16 : Bool) (v17 : Int32) (w29 : Bool) (hk0 : lp n (fun x => F28 x.1 x.2) (v16, v17) = some w29)  (H : Heap) (locs : List Loc) (hS : St D s H locs) (hF : Off (fun _ => False) s.heap H) (h_x0 : OA D 1 x0 [.ref x0r0] H) (h_x0r0 : ON D 0 x0r0 [.ref x0r0r0, .ref x0r0r1, .ref x0r0r2, .int x0r0f3, .int x0r0f4, .int x0r0f5, .int x0r0f6] H) (h_x0r0r0 : aD D x0r0r0 8 x0r0r0c H) (h_x0r0r1 : aD D x0r0r1 8 x0r0r1c H) (h_x0r0r2 : aZ D x0r0r2 8 x0r0r2c H) (ls : Array Slot) (hl : lv_has ls 14 [(0, .ref x0), (1, .int x1), (2, .long x2), (5, .int v5), (6, .int v7), (7, .int o8), (8, .int v9), (9, .int (bI v16)), (10, .int v17)]) (K148 : ∀ (H : Heap) (locs : List Loc) (hS : St D s H locs) (hF : Off (fun _ => False) s.heap H) (h_x0 : OA D 1 x0 [.ref x0r0] H) (h_x0r0 : ON D 0 x0r0 [.ref x0r0r0, .ref x0r0r1, .ref x0r0r2, .int x0r0f3, .int x0r0f4, .int x0r0f5, .int x0r0f6] H) (h_x0r0r0 : aD D x0r0r0 8 x0r0r0c H) (h_x0r0r1 : aD D x0r0r1 8 x0r0r1c H) (h_x0r0r2 : aZ D x0r0r2 8 x0r0r2c H) (ls : Array Slot) (hl : lv_has ls 14 [(2, .long x2), (5, .int v5), (6, .int v7), (7, .int o8), (8, .int v9), (9, .int (bI w29))]), W p l e R_X0_areDigits s m A below meth c H locs 11 260 Q (F0 m 148 ls [])), W p l e R_X0_areDigits s m A below meth c H locs 11 260 Q (F0 m 102 ls []) := by
      intro n
      induction n with
      | zero => intro v16 v17 w29 hk0  H locs hS hF h_x0 h_x0r0 h_x0r0r0 h_x0r0r1 h_x0r0r2 ls hl K148; exact lp_zero hk0
      | succ n ih =>
        intro v16 v17 w29 hk0  H locs hS hF h_x0 h_x0r0 h_x0r0r0 h_x0r0r1 h_x0r0r2 ls hl K148
        obtain ⟨z30, hz, hk⟩ := lp_step hk0
        have h := (congrFun (congrFun (eF28) v16) v17).symm.trans hz
        refine lv_iload hx hb dX0_areDigits_102 (lv_at hl 8 rfl) ?_
        refine lv_bipush (v := 30) hx hb dX0_areDigits_104 (by decide) ?_
        refine lv_icmp_ge (tgt := 148) hx hb dX0_areDigits_106 (by decide) (fun c31 => ?_) (fun c31 => ?_)
        · have h := it_pos h c31
          obtain rfl := Option.some.inj h
          obtain rfl := id hk
          exact K148 H locs hS hF h_x0 h_x0r0 h_x0r0r0 h_x0r0r1 h_x0r0r2 ls (lv_sub hl [2, 3, 4, 5, 6, 7] rfl)
        · have h := it_neg h c31
          refine lv_iload hx hb dX0_areDigits_109 (lv_at hl 7 rfl) ?_
          obtain ⟨K33, eK33, h⟩ := lt_step h
          have HK33 : ∀ (v32 : Bool) (h : K33 v32 = some z30) (H : Heap) (locs : List Loc) (hS : St D s H locs) (hF : Off (fun _ => False) s.heap H) (h_x0 : OA D 1 x0 [.ref x0r0] H) (h_x0r0 : ON D 0 x0r0 [.ref x0r0r0, .ref x0r0r1, .ref x0r0r2, .int x0r0f3, .int x0r0f4, .int x0r0f5, .int x0r0f6] H) (h_x0r0r0 : aD D x0r0r0 8 x0r0r0c H) (h_x0r0r1 : aD D x0r0r1 8 x0r0r1c H) (h_x0r0r2 : aZ D x0r0r2 8 x0r0r2c H) (ls : Array Slot) (hl : lv_has ls 14 [(0, .ref x0), (1, .int x1), (2, .long x2), (5, .int v5), (6, .int v7), (7, .int o8), (8, .int v9), (10, .int v17)]), W p l e R_X0_areDigits s m A below meth c H locs 11 260 Q (F0 m 140 ls [.int (bI v32)]) := by
            intro v32 h H locs hS hF h_x0 h_x0r0 h_x0r0r0 h_x0r0r1 h_x0r0r2 ls hl
            subst eK33
            refine lv_istore (lv' := [(9, .int (bI v32)), (0, .ref x0), (1, .int x1), (2, .long x2), (5, .int v5), (6, .int v7), (7, .int o8), (8, .int v9), (10, .int v17)]) hx hb dX0_areDigits_140 hl (by decide) rfl (fun ls hl => ?_)
            obtain ⟨v34, ev34, h⟩ := lti_step h
            refine lv_iinc (v := v34) (lv' := [(10, .int v34), (9, .int (bI v32)), (0, .ref x0), (1, .int x1), (2, .long x2), (5, .int v5), (6, .int v7), (7, .int o8), (8, .int v9)]) hx hb dX0_areDigits_142 hl (k := 8) rfl (by rw [ev34]; rfl) (by decide) rfl (fun ls hl => ?_)
            refine lv_goto (tgt := 102) hx hb dX0_areDigits_145 (by decide) ?_
            obtain rfl := Option.some.inj h
            exact ih v32 v34 w29 hk  H locs hS hF h_x0 h_x0r0 h_x0r0r0 h_x0r0r1 h_x0r0r2 ls (lv_sub hl [2, 3, 4, 5, 6, 7, 8, 1, 0] rfl) K148
          clear eK33
          obtain ⟨K35, eK35, h⟩ := lt_step h
          have HK35 : ∀  (h : K35 () = some z30) (H : Heap) (locs : List Loc) (hS : St D s H locs) (hF : Off (fun _ => False) s.heap H) (h_x0 : OA D 1 x0 [.ref x0r0] H) (h_x0r0 : ON D 0 x0r0 [.ref x0r0r0, .ref x0r0r1, .ref x0r0r2, .int x0r0f3, .int x0r0f4, .int x0r0f5, .int x0r0f6] H) (h_x0r0r0 : aD D x0r0r0 8 x0r0r0c H) (h_x0r0r1 : aD D x0r0r1 8 x0r0r1c H) (h_x0r0r2 : aZ D x0r0r2 8 x0r0r2c H) (ls : Array Slot) (hl : lv_has ls 14 [(0, .ref x0), (1, .int x1), (2, .long x2), (5, .int v5), (6, .int v7), (7, .int o8), (8, .int v9), (10, .int v17)]), W p l e R_X0_areDigits s m A below meth c H locs 11 260 Q (F0 m 139 ls []) := by
            intro h H locs hS hF h_x0 h_x0r0 h_x0r0r0 h_x0r0r1 h_x0r0r2 ls hl
            subst eK35
            refine lv_iconst (v := 0) hx hb dX0_areDigits_139 (by decide) ?_
            exact HK33 false h H locs hS hF h_x0 h_x0r0 h_x0r0r0 h_x0r0r1 h_x0r0r2 ls (lv_sub hl [0, 1, 2, 3, 4, 5, 6, 7] rfl)
          clear eK35
          refine r_ifz_eq (tgt := 139) hx hb dX0_areDigits_111 (by decide) (fun c36 => ?_) (fun c36 => ?_)
          · have h := it_neg h (by rw [c36]; decide)
            exact HK35  h H locs hS hF h_x0 h_x0r0 h_x0r0r0 h_x0r0r1 h_x0r0r2 ls (lv_sub hl [0, 1, 2, 3, 4, 5, 6, 8] rfl)
          · have h := it_pos h (by rw [c36])
            refine lv_aload_n hx hb dX0_areDigits_114 rfl (lv_at hl 0 rfl) ?_
            refine r_get hx hb hts hown hS h_x0 rfl in_X0 0 (by decide) q936 rfl (v := .ref x0r0) rfl dX0_areDigits_115 ?_
            refine lv_iload_n hx hb dX0_areDigits_118 rfl (lv_at hl 1 rfl) ?_
            refine lv_iload hx hb dX0_areDigits_119 (lv_at hl 8 rfl) ?_
            obtain ⟨o37, eo37, h⟩ := bind_step h
            refine r_cp (r_runV (rest := []) (As := [.int x1, .int v17]) hC 2 (m_X1_first x0r0 x0r0r0 x0r0r1 x0r0r2  x0r0r0c x0r0r1c x0r0r2c x0r0f3 x0r0f4 x0r0f5 x0r0f6 x1 v17 o37 eo37) q1556 q1557 q1558 q46 q1559 (OA.recv hS h_x0r0.OA (C := RX1) rfl) hd_X1_first rfl ⟨Nat.le_of_ble_eq_true rfl, Nat.le_of_ble_eq_true rfl⟩ hS ⟨h_x0r0, h_x0r0r0, h_x0r0r1, h_x0r0r2⟩ hl.1 rfl (Nat.le_of_ble_eq_true rfl) dX0_areDigits_121 ⟨Nat.le_of_ble_eq_true rfl, Nat.le_of_ble_eq_true rfl⟩) ?_
            refine lv_iload hx hb dX0_areDigits_124 (lv_at hl 5 rfl) ?_
            refine lv_bipush (v := 30) hx hb dX0_areDigits_126 (by decide) ?_
            refine lv_iload hx hb dX0_areDigits_128 (lv_at hl 8 rfl) ?_
            obtain ⟨v38, ev38, h⟩ := lti_step h
            refine r_isub hx hb ev38 dX0_areDigits_130 ?_
            obtain ⟨v39, ev39, h⟩ := lti_step h
            refine r_ishr hx hb ev39 dX0_areDigits_131 ?_
            refine lv_icmp_ne (tgt := 139) hx hb dX0_areDigits_132 (by decide) (fun c40 => ?_) (fun c40 => ?_)
            · have h := it_neg h c40
              exact HK35  h H locs hS hF h_x0 h_x0r0 h_x0r0r0 h_x0r0r1 h_x0r0r2 ls (lv_sub hl [0, 1, 2, 3, 4, 5, 6, 8] rfl)
            · have h := it_pos h c40
              refine lv_iconst (v := 1) hx hb dX0_areDigits_135 (by decide) ?_
              refine lv_goto (tgt := 140) hx hb dX0_areDigits_136 (by decide) ?_
              exact HK33 true h H locs hS hF h_x0 h_x0r0 h_x0r0r0 h_x0r0r1 h_x0r0r2 ls (lv_sub hl [0, 1, 2, 3, 4, 5, 6, 8] rfl)
    clear eF28
    refine HL 9 v14 0 w29 ew29  H locs hS hF h_x0 h_x0r0 h_x0r0r0 h_x0r0r1 h_x0r0r2 ls (lv_sub hl [2, 3, 4, 5, 6, 7, 8, 1, 0] rfl) (fun  H locs hS hF h_x0 h_x0r0 h_x0r0r0 h_x0r0r1 h_x0r0r2 ls hl => ?_)
    refine lv_iload hx hb dX0_areDigits_148 (lv_at hl 2 rfl) ?_
    refine lv_if_ne (tgt := 175) hx hb dX0_areDigits_150 (by decide) (fun c41 => ?_) (fun c41 => ?_)
    · have h := it_neg h c41
      refine lv_iload hx hb dX0_areDigits_175 (lv_at hl 4 rfl) ?_
      obtain ⟨K43, eK43, h⟩ := lt_step h
      have HK43 : ∀ (v42 : Int64) (h : K43 v42 = some r) (H : Heap) (locs : List Loc) (hS : St D s H locs) (hF : Off (fun _ => False) s.heap H) (h_x0 : OA D 1 x0 [.ref x0r0] H) (h_x0r0 : ON D 0 x0r0 [.ref x0r0r0, .ref x0r0r1, .ref x0r0r2, .int x0r0f3, .int x0r0f4, .int x0r0f5, .int x0r0f6] H) (h_x0r0r0 : aD D x0r0r0 8 x0r0r0c H) (h_x0r0r1 : aD D x0r0r1 8 x0r0r1c H) (h_x0r0r2 : aZ D x0r0r2 8 x0r0r2c H) (ls : Array Slot) (hl : lv_has ls 14 [(2, .long x2), (5, .int v5), (7, .int o8), (8, .int v9), (9, .int (bI w29))]), W p l e R_X0_areDigits s m A below meth c H locs 11 260 Q (F0 m 204 ls [.long v42]) := by
        intro v42 h H locs hS hF h_x0 h_x0r0 h_x0r0r0 h_x0r0r1 h_x0r0r2 ls hl
        subst eK43
        refine lv_lstore (lv' := [(10, .long v42), (2, .long x2), (5, .int v5), (7, .int o8), (8, .int v9), (9, .int (bI w29))]) hx hb dX0_areDigits_204 hl (by decide) rfl (fun ls hl => ?_)
        refine lv_iload hx hb dX0_areDigits_206 (lv_at hl 4 rfl) ?_
        obtain ⟨K45, eK45, h⟩ := lt_step h
        have HK45 : ∀ (v44 : Int64) (h : K45 v44 = some r) (H : Heap) (locs : List Loc) (hS : St D s H locs) (hF : Off (fun _ => False) s.heap H) (h_x0 : OA D 1 x0 [.ref x0r0] H) (h_x0r0 : ON D 0 x0r0 [.ref x0r0r0, .ref x0r0r1, .ref x0r0r2, .int x0r0f3, .int x0r0f4, .int x0r0f5, .int x0r0f6] H) (h_x0r0r0 : aD D x0r0r0 8 x0r0r0c H) (h_x0r0r1 : aD D x0r0r1 8 x0r0r1c H) (h_x0r0r2 : aZ D x0r0r2 8 x0r0r2c H) (ls : Array Slot) (hl : lv_has ls 14 [(2, .long x2), (5, .int v5), (8, .int v9), (9, .int (bI w29)), (10, .long v42)]), W p l e R_X0_areDigits s m A below meth c H locs 11 260 Q (F0 m 230 ls [.long v44]) := by
          intro v44 h H locs hS hF h_x0 h_x0r0 h_x0r0r0 h_x0r0r1 h_x0r0r2 ls hl
          subst eK45
          refine lv_lstore (lv' := [(12, .long v44), (2, .long x2), (5, .int v5), (8, .int v9), (9, .int (bI w29)), (10, .long v42)]) hx hb dX0_areDigits_230 hl (by decide) rfl (fun ls hl => ?_)
          refine lv_iload hx hb dX0_areDigits_232 (lv_at hl 4 rfl) ?_
          refine r_ifz_eq (tgt := 295) hx hb dX0_areDigits_234 (by decide) (fun c46 => ?_) (fun c46 => ?_)
          · have h := it_neg h (by rw [c46]; decide)
            refine lv_iconst (v := 0) hx hb dX0_areDigits_295 (by decide) ?_
            obtain rfl := Option.some.inj h
            rw [eQ]
            exact r_zret hx hb hr hlk hS (by decide) (Nat.le_of_ble_eq_true rfl) (Nat.le_of_ble_eq_true rfl) dX0_areDigits_296 ⟨_, rfl, rfl, hF⟩
          · have h := it_pos h (by rw [c46])
            refine lv_iload hx hb dX0_areDigits_237 (lv_at hl 3 rfl) ?_
            refine lv_bipush (v := (-18)) hx hb dX0_areDigits_239 (by decide) ?_
            refine lv_icmp_le (tgt := 295) hx hb dX0_areDigits_241 (by decide) (fun c47 => ?_) (fun c47 => ?_)
            · have h := it_pos h c47
              refine lv_iconst (v := 0) hx hb dX0_areDigits_295 (by decide) ?_
              obtain rfl := Option.some.inj h
              rw [eQ]
              exact r_zret hx hb hr hlk hS (by decide) (Nat.le_of_ble_eq_true rfl) (Nat.le_of_ble_eq_true rfl) dX0_areDigits_296 ⟨_, rfl, rfl, hF⟩
            · have h := it_neg h c47
              refine lv_iload hx hb dX0_areDigits_244 (lv_at hl 3 rfl) ?_
              refine lv_bipush (v := 18) hx hb dX0_areDigits_246 (by decide) ?_
              refine lv_icmp_ge (tgt := 295) hx hb dX0_areDigits_248 (by decide) (fun c48 => ?_) (fun c48 => ?_)
              · have h := it_pos h c48
                refine lv_iconst (v := 0) hx hb dX0_areDigits_295 (by decide) ?_
                obtain rfl := Option.some.inj h
                rw [eQ]
                exact r_zret hx hb hr hlk hS (by decide) (Nat.le_of_ble_eq_true rfl) (Nat.le_of_ble_eq_true rfl) dX0_areDigits_296 ⟨_, rfl, rfl, hF⟩
              · have h := it_neg h c48
                refine lv_iload hx hb dX0_areDigits_251 (lv_at hl 2 rfl) ?_
                refine lv_if_ne (tgt := 273) hx hb dX0_areDigits_253 (by decide) (fun c49 => ?_) (fun c49 => ?_)
                · have h := it_neg h c49
                  refine lv_lload hx hb dX0_areDigits_273 (lv_at hl 0 rfl) ?_
                  obtain ⟨v50, ev50, h⟩ := ltl_step h
                  refine r_lneg hx hb ev50 dX0_areDigits_275 ?_
                  refine lv_lconst (v := 1) hx hb dX0_areDigits_276 rfl ?_
                  obtain ⟨v51, ev51, h⟩ := ltl_step h
                  refine r_lsub hx hb ev51 dX0_areDigits_277 ?_
                  refine lv_lload_n hx hb dX0_areDigits_278 rfl (lv_at hl 1 rfl) ?_
                  obtain ⟨v52, ev52, h⟩ := lti_step h
                  refine r_lcmp hx hb ev52 dX0_areDigits_279 ?_
                  refine lv_if_gt (tgt := 295) hx hb dX0_areDigits_280 (by decide) (fun c53 => ?_) (fun c53 => ?_)
                  · have h := it_pos h c53
                    refine lv_iconst (v := 0) hx hb dX0_areDigits_295 (by decide) ?_
                    obtain rfl := Option.some.inj h
                    rw [eQ]
                    exact r_zret hx hb hr hlk hS (by decide) (Nat.le_of_ble_eq_true rfl) (Nat.le_of_ble_eq_true rfl) dX0_areDigits_296 ⟨_, rfl, rfl, hF⟩
                  · have h := it_neg h c53
                    refine lv_lload_n hx hb dX0_areDigits_283 rfl (lv_at hl 1 rfl) ?_
                    refine lv_lload hx hb dX0_areDigits_284 (lv_at hl 5 rfl) ?_
                    obtain ⟨v54, ev54, h⟩ := ltl_step h
                    refine r_lneg hx hb ev54 dX0_areDigits_286 ?_
                    obtain ⟨v55, ev55, h⟩ := lti_step h
                    refine r_lcmp hx hb ev55 dX0_areDigits_287 ?_
                    refine lv_if_gt (tgt := 295) hx hb dX0_areDigits_288 (by decide) (fun c56 => ?_) (fun c56 => ?_)
                    · have h := it_pos h c56
                      refine lv_iconst (v := 0) hx hb dX0_areDigits_295 (by decide) ?_
                      obtain rfl := Option.some.inj h
                      rw [eQ]
                      exact r_zret hx hb hr hlk hS (by decide) (Nat.le_of_ble_eq_true rfl) (Nat.le_of_ble_eq_true rfl) dX0_areDigits_296 ⟨_, rfl, rfl, hF⟩
                    · have h := it_neg h c56
                      refine lv_iconst (v := 1) hx hb dX0_areDigits_291 (by decide) ?_
                      refine lv_goto (tgt := 296) hx hb dX0_areDigits_292 (by decide) ?_
                      obtain rfl := Option.some.inj h
                      rw [eQ]
                      exact r_zret hx hb hr hlk hS (by decide) (Nat.le_of_ble_eq_true rfl) (Nat.le_of_ble_eq_true rfl) dX0_areDigits_296 ⟨_, rfl, rfl, hF⟩
                · have h := it_pos h c49
                  refine lv_lload hx hb dX0_areDigits_256 (lv_at hl 5 rfl) ?_
                  refine lv_lload_n hx hb dX0_areDigits_258 rfl (lv_at hl 1 rfl) ?_
                  obtain ⟨v57, ev57, h⟩ := lti_step h
                  refine r_lcmp hx hb ev57 dX0_areDigits_259 ?_
                  refine lv_if_gt (tgt := 295) hx hb dX0_areDigits_260 (by decide) (fun c58 => ?_) (fun c58 => ?_)
                  · have h := it_pos h c58
                    refine lv_iconst (v := 0) hx hb dX0_areDigits_295 (by decide) ?_
                    obtain rfl := Option.some.inj h
                    rw [eQ]
                    exact r_zret hx hb hr hlk hS (by decide) (Nat.le_of_ble_eq_true rfl) (Nat.le_of_ble_eq_true rfl) dX0_areDigits_296 ⟨_, rfl, rfl, hF⟩
                  · have h := it_neg h c58
                    refine lv_lload_n hx hb dX0_areDigits_263 rfl (lv_at hl 1 rfl) ?_
                    refine lv_lload hx hb dX0_areDigits_264 (lv_at hl 0 rfl) ?_
                    obtain ⟨v59, ev59, h⟩ := lti_step h
                    refine r_lcmp hx hb ev59 dX0_areDigits_266 ?_
                    refine lv_if_gt (tgt := 295) hx hb dX0_areDigits_267 (by decide) (fun c60 => ?_) (fun c60 => ?_)
                    · have h := it_pos h c60
                      refine lv_iconst (v := 0) hx hb dX0_areDigits_295 (by decide) ?_
                      obtain rfl := Option.some.inj h
                      rw [eQ]
                      exact r_zret hx hb hr hlk hS (by decide) (Nat.le_of_ble_eq_true rfl) (Nat.le_of_ble_eq_true rfl) dX0_areDigits_296 ⟨_, rfl, rfl, hF⟩
                    · have h := it_neg h c60
                      refine lv_goto (tgt := 291) hx hb dX0_areDigits_270 (by decide) ?_
                      refine lv_iconst (v := 1) hx hb dX0_areDigits_291 (by decide) ?_
                      refine lv_goto (tgt := 296) hx hb dX0_areDigits_292 (by decide) ?_
                      obtain rfl := Option.some.inj h
                      rw [eQ]
                      exact r_zret hx hb hr hlk hS (by decide) (Nat.le_of_ble_eq_true rfl) (Nat.le_of_ble_eq_true rfl) dX0_areDigits_296 ⟨_, rfl, rfl, hF⟩
        clear eK45
        refine lv_if_ge (tgt := 216) hx hb dX0_areDigits_208 (by decide) (fun c61 => ?_) (fun c61 => ?_)
        · have h := it_pos h c61
          refine lv_ldc2 hx hb (v := 1073741824) hown (hts _ q1239) dX0_areDigits_216 ?_
          refine lv_iload hx hb dX0_areDigits_219 (lv_at hl 3 rfl) ?_
          obtain ⟨v62, ev62, h⟩ := ltl_step h
          refine r_i2l hx hb ev62 dX0_areDigits_221 ?_
          obtain ⟨v63, ev63, h⟩ := ltl_step h
          refine r_ladd hx hb ev63 dX0_areDigits_222 ?_
          refine lv_lconst (v := 1) hx hb dX0_areDigits_223 rfl ?_
          obtain ⟨v64, ev64, h⟩ := ltl_step h
          refine r_ladd hx hb ev64 dX0_areDigits_224 ?_
          refine lv_iload hx hb dX0_areDigits_225 (lv_at hl 4 rfl) ?_
          obtain ⟨v65, ev65, h⟩ := ltl_step h
          refine r_lshl hx hb ev65 dX0_areDigits_227 ?_
          refine lv_lconst (v := 1) hx hb dX0_areDigits_228 rfl ?_
          obtain ⟨v66, ev66, h⟩ := ltl_step h
          refine r_lsub hx hb ev66 dX0_areDigits_229 ?_
          exact HK45 v66 h H locs hS hF h_x0 h_x0r0 h_x0r0r0 h_x0r0r1 h_x0r0r2 ls (lv_sub hl [1, 2, 4, 5, 0] rfl)
        · have h := it_neg h c61
          refine lv_lload hx hb dX0_areDigits_211 (lv_at hl 0 rfl) ?_
          refine lv_goto (tgt := 230) hx hb dX0_areDigits_213 (by decide) ?_
          exact HK45 v42 h H locs hS hF h_x0 h_x0r0 h_x0r0r0 h_x0r0r1 h_x0r0r2 ls (lv_sub hl [1, 2, 4, 5, 0] rfl)
      clear eK43
      refine lv_if_ge (tgt := 194) hx hb dX0_areDigits_177 (by decide) (fun c67 => ?_) (fun c67 => ?_)
      · have h := it_pos h c67
        refine lv_ldc2 hx hb (v := 1073741824) hown (hts _ q1239) dX0_areDigits_194 ?_
        refine lv_iload hx hb dX0_areDigits_197 (lv_at hl 3 rfl) ?_
        obtain ⟨v68, ev68, h⟩ := ltl_step h
        refine r_i2l hx hb ev68 dX0_areDigits_199 ?_
        obtain ⟨v69, ev69, h⟩ := ltl_step h
        refine r_ladd hx hb ev69 dX0_areDigits_200 ?_
        refine lv_iload hx hb dX0_areDigits_201 (lv_at hl 4 rfl) ?_
        obtain ⟨v70, ev70, h⟩ := ltl_step h
        refine r_lshl hx hb ev70 dX0_areDigits_203 ?_
        exact HK43 v70 h H locs hS hF h_x0 h_x0r0 h_x0r0r0 h_x0r0r1 h_x0r0r2 ls (lv_sub hl [0, 1, 3, 4, 5] rfl)
      · have h := it_neg h c67
        refine lv_ldc2 hx hb (v := 1073741824) hown (hts _ q1239) dX0_areDigits_180 ?_
        refine lv_iload hx hb dX0_areDigits_183 (lv_at hl 3 rfl) ?_
        obtain ⟨v71, ev71, h⟩ := ltl_step h
        refine r_i2l hx hb ev71 dX0_areDigits_185 ?_
        obtain ⟨v72, ev72, h⟩ := ltl_step h
        refine r_ladd hx hb ev72 dX0_areDigits_186 ?_
        refine lv_iload hx hb dX0_areDigits_187 (lv_at hl 4 rfl) ?_
        obtain ⟨v73, ev73, h⟩ := lti_step h
        refine r_ineg hx hb ev73 dX0_areDigits_189 ?_
        obtain ⟨v74, ev74, h⟩ := ltl_step h
        refine r_lshr hx hb ev74 dX0_areDigits_190 ?_
        refine lv_goto (tgt := 204) hx hb dX0_areDigits_191 (by decide) ?_
        exact HK43 v74 h H locs hS hF h_x0 h_x0r0 h_x0r0r0 h_x0r0r1 h_x0r0r2 ls (lv_sub hl [0, 1, 3, 4, 5] rfl)
    · have h := it_pos h c41
      refine lv_iload hx hb dX0_areDigits_153 (lv_at hl 5 rfl) ?_
      refine r_ifz_eq (tgt := 173) hx hb dX0_areDigits_155 (by decide) (fun c75 => ?_) (fun c75 => ?_)
      · have h := it_neg h (by rw [c75]; decide)
        refine lv_iconst (v := 0) hx hb dX0_areDigits_173 (by decide) ?_
        obtain rfl := Option.some.inj h
        rw [eQ]
        exact r_zret hx hb hr hlk hS (by decide) (Nat.le_of_ble_eq_true rfl) (Nat.le_of_ble_eq_true rfl) dX0_areDigits_174 ⟨_, rfl, rfl, hF⟩
      · have h := it_pos h (by rw [c75])
        refine lv_lload_n hx hb dX0_areDigits_158 rfl (lv_at hl 0 rfl) ?_
        refine lv_lconst (v := 0) hx hb dX0_areDigits_159 rfl ?_
        obtain ⟨v76, ev76, h⟩ := lti_step h
        refine r_lcmp hx hb ev76 dX0_areDigits_160 ?_
        refine lv_if_ne (tgt := 173) hx hb dX0_areDigits_161 (by decide) (fun c77 => ?_) (fun c77 => ?_)
        · have h := it_neg h c77
          refine lv_iconst (v := 0) hx hb dX0_areDigits_173 (by decide) ?_
          obtain rfl := Option.some.inj h
          rw [eQ]
          exact r_zret hx hb hr hlk hS (by decide) (Nat.le_of_ble_eq_true rfl) (Nat.le_of_ble_eq_true rfl) dX0_areDigits_174 ⟨_, rfl, rfl, hF⟩
        · have h := it_pos h c77
          refine lv_iload hx hb dX0_areDigits_164 (lv_at hl 3 rfl) ?_
          refine lv_if_ne (tgt := 173) hx hb dX0_areDigits_166 (by decide) (fun c78 => ?_) (fun c78 => ?_)
          · have h := it_neg h c78
            refine lv_iconst (v := 0) hx hb dX0_areDigits_173 (by decide) ?_
            obtain rfl := Option.some.inj h
            rw [eQ]
            exact r_zret hx hb hr hlk hS (by decide) (Nat.le_of_ble_eq_true rfl) (Nat.le_of_ble_eq_true rfl) dX0_areDigits_174 ⟨_, rfl, rfl, hF⟩
          · have h := it_pos h c78
            refine lv_iconst (v := 1) hx hb dX0_areDigits_169 (by decide) ?_
            refine lv_goto (tgt := 174) hx hb dX0_areDigits_170 (by decide) ?_
            obtain rfl := Option.some.inj h
            rw [eQ]
            exact r_zret hx hb hr hlk hS (by decide) (Nat.le_of_ble_eq_true rfl) (Nat.le_of_ble_eq_true rfl) dX0_areDigits_174 ⟨_, rfl, rfl, hF⟩
  clear eK15
  obtain ⟨K79, eK79, h⟩ := lt_step h
  have HK79 : ∀  (h : K79 () = some r) (H : Heap) (locs : List Loc) (hS : St D s H locs) (hF : Off (fun _ => False) s.heap H) (h_x0 : OA D 1 x0 [.ref x0r0] H) (h_x0r0 : ON D 0 x0r0 [.ref x0r0r0, .ref x0r0r1, .ref x0r0r2, .int x0r0f3, .int x0r0f4, .int x0r0f5, .int x0r0f6] H) (h_x0r0r0 : aD D x0r0r0 8 x0r0r0c H) (h_x0r0r1 : aD D x0r0r1 8 x0r0r1c H) (h_x0r0r2 : aZ D x0r0r2 8 x0r0r2c H) (ls : Array Slot) (hl : lv_has ls 14 [(0, .ref x0), (1, .int x1), (2, .long x2), (5, .int v5), (6, .int v7), (7, .int o8), (8, .int v9)]), W p l e R_X0_areDigits s m A below meth c H locs 11 260 Q (F0 m 96 ls []) := by
    intro h H locs hS hF h_x0 h_x0r0 h_x0r0r0 h_x0r0r1 h_x0r0r2 ls hl
    subst eK79
    refine lv_iconst (v := 0) hx hb dX0_areDigits_96 (by decide) ?_
    exact HK15 false h H locs hS hF h_x0 h_x0r0 h_x0r0r0 h_x0r0r1 h_x0r0r2 ls (lv_sub hl [0, 1, 2, 3, 4, 5, 6] rfl)
  clear eK79
  refine lv_if_ne (tgt := 96) hx hb dX0_areDigits_61 (by decide) (fun c80 => ?_) (fun c80 => ?_)
  · have h := it_neg h c80
    exact HK79  h H locs hS hF h_x0 h_x0r0 h_x0r0r0 h_x0r0r1 h_x0r0r2 ls (lv_sub hl [5, 6, 7, 3, 2, 1, 0] rfl)
  · have h := it_pos h c80
    refine lv_aload_n hx hb dX0_areDigits_64 rfl (lv_at hl 5 rfl) ?_
    refine r_get hx hb hts hown hS h_x0 rfl in_X0 0 (by decide) q936 rfl (v := .ref x0r0) rfl dX0_areDigits_65 ?_
    refine lv_iload_n hx hb dX0_areDigits_68 rfl (lv_at hl 6 rfl) ?_
    obtain ⟨o81, eo81, h⟩ := bind_step h
    refine r_cp (r_runV (rest := []) (As := [.int x1]) hC 1 (m_X1_upper x0r0 x0r0r0 x0r0r1 x0r0r2  x0r0r0c x0r0r1c x0r0r2c x0r0f3 x0r0f4 x0r0f5 x0r0f6 x1 o81 eo81) q1240 q1241 q1242 q46 q1243 (OA.recv hS h_x0r0.OA (C := RX1) rfl) hd_X1_upper rfl ⟨Nat.le_of_ble_eq_true rfl, Nat.le_of_ble_eq_true rfl⟩ hS ⟨h_x0r0, h_x0r0r0, h_x0r0r1, h_x0r0r2⟩ hl.1 rfl (Nat.le_of_ble_eq_true rfl) dX0_areDigits_69 ⟨Nat.le_of_ble_eq_true rfl, Nat.le_of_ble_eq_true rfl⟩) ?_
    refine lv_iload hx hb dX0_areDigits_72 (lv_at hl 3 rfl) ?_
    refine lv_bipush (v := 31) hx hb dX0_areDigits_74 (by decide) ?_
    obtain ⟨v82, ev82, h⟩ := lti_step h
    refine r_ishl hx hb ev82 dX0_areDigits_76 ?_
    refine lv_iload hx hb dX0_areDigits_77 (lv_at hl 2 rfl) ?_
    refine lv_bipush (v := 20) hx hb dX0_areDigits_79 (by decide) ?_
    obtain ⟨v83, ev83, h⟩ := lti_step h
    refine r_ishl hx hb ev83 dX0_areDigits_81 ?_
    obtain ⟨v84, ev84, h⟩ := lti_step h
    refine r_ior hx hb ev84 dX0_areDigits_82 ?_
    refine lv_iload hx hb dX0_areDigits_83 (lv_at hl 1 rfl) ?_
    refine lv_bipush (v := 10) hx hb dX0_areDigits_85 (by decide) ?_
    obtain ⟨v85, ev85, h⟩ := lti_step h
    refine r_ishr hx hb ev85 dX0_areDigits_87 ?_
    obtain ⟨v86, ev86, h⟩ := lti_step h
    refine r_ior hx hb ev86 dX0_areDigits_88 ?_
    refine lv_icmp_ne (tgt := 96) hx hb dX0_areDigits_89 (by decide) (fun c87 => ?_) (fun c87 => ?_)
    · have h := it_neg h c87
      exact HK79  h H locs hS hF h_x0 h_x0r0 h_x0r0r0 h_x0r0r1 h_x0r0r2 ls (lv_sub hl [5, 6, 7, 3, 2, 1, 0] rfl)
    · have h := it_pos h c87
      refine lv_iconst (v := 1) hx hb dX0_areDigits_92 (by decide) ?_
      refine lv_goto (tgt := 97) hx hb dX0_areDigits_93 (by decide) ?_
      exact HK15 true h H locs hS hF h_x0 h_x0r0 h_x0r0r0 h_x0r0r1 h_x0r0r2 ls (lv_sub hl [5, 6, 7, 3, 2, 1, 0] rfl)

abbrev R_X0_isSorted : Room := { frames := 7, cells := 112, slots := 2354, locals := 173 }
noncomputable def f_X0_isSorted (x0r0r0c : Nat → UInt64) (x0r0r1c : Nat → UInt64) (x0r0r2c : Nat → Int32) (x0r0f3 : Int32) (x0r0f4 : Int32) (x0r0f5 : Int32) (x0r0f6 : Int32) : Option (Bool × Int32 × (Nat → UInt64) × (Nat → Int32)) :=
  lt (fun (v1 : Int64) (v2 : Int32) =>
  (show Option (Sum (Int64 × Int32) (Int64)) from (
  (if 8 ≤ v2 then
    some (.inr v1)
  else
    Option.bind (f_X1_angleText x0r0r0c x0r0r1c x0r0r2c x0r0f3 x0r0f4 x0r0f5 x0r0f6 v2) fun o16 =>
    Option.bind (f_J5_hashCode o16.1 o16.2) fun o19 =>
    ltl (o19.1.toInt64) fun v20 =>
    ltl ((v1 + v20 : Int64)) fun v21 =>
    lti (v2 + 1) fun v22 =>
    some (.inl (v21, v22))
  )
  ))
  ) fun F12 =>
  Option.bind (lp 9 (fun x => F12 x.1 x.2) (0, 0)) fun w13 =>
  Option.bind (f_X1_angleSort x0r0r0c x0r0r1c x0r0r2c x0r0f3 x0r0f4 x0r0f5 x0r0f6) fun o23 =>
  lt (fun (f24 : Nat → UInt64) (f25 : Nat → Int32) (v26 : Int32) (v27 : Bool) =>
  lt (fun (v29 : Int64) (v30 : Bool) (v31 : Int32) =>
  (show Option (Sum (Int64 × Bool × Int32) (Int64 × Bool)) from (
  (if 8 ≤ v31 then
    some (.inr (v29, v30))
  else
    Option.bind (f_X1_angleText f24 x0r0r1c f25 v26 x0r0f4 x0r0f5 x0r0f6 v31) fun o55 =>
    Option.bind (f_J5_hashCode o55.1 o55.2) fun o58 =>
    ltl (o58.1.toInt64) fun v59 =>
    ltl ((v29 + v59 : Int64)) fun v60 =>
    lt (fun (v61 : Bool) =>
    lti (v31 + 1) fun v63 =>
    some (.inl (v60, v61, v63))
    ) fun K62 =>
    lt (fun (_u : Unit) =>
    K62 false
    ) fun K64 =>
    (if v30 = true then
      lt (fun (_u : Unit) =>
      K62 true
      ) fun K66 =>
      (if v31 = 0 then
        K66 ()
      else
        lti (v31 - 1) fun v68 =>
        lti (v31 &&& 1) fun v69 =>
        Option.bind (f_X1_angleOrder f24 x0r0r1c f25 v26 x0r0f4 x0r0f5 x0r0f6 v68 v31 v69) fun o70 =>
        (if 0 < o70 then
          K64 ()
        else
          K66 ()
        )
      )
    else
      K64 ()
    )
  )
  ))
  ) fun F51 =>
  Option.bind (lp 9 (fun x => F51 x.1 x.2.1 x.2.2) (0, v27, 0)) fun w52 =>
  (if w52.2 = true then
    lti (lg_cmp w13 w52.1) fun v73 =>
    (if v73 = 0 then
      some (true, v26, f24, f25)
    else
      some (false, v26, f24, f25)
    )
  else
    some (false, v26, f24, f25)
  )
  ) fun K28 =>
  lt (fun (f75 : Nat → UInt64) (f76 : Nat → Int32) (v77 : Int32) =>
  K28 f75 f76 v77 false
  ) fun K78 =>
  (if o23.1 < 0 then
    K78 o23.2.2.1 o23.2.2.2 o23.2.1
  else
    Option.bind (f_X1_angleSort o23.2.2.1 x0r0r1c o23.2.2.2 o23.2.1 x0r0f4 x0r0f5 x0r0f6) fun o80 =>
    (if o80.1 = 0 then
      K28 o80.2.2.1 o80.2.2.2 o80.2.1 true
    else
      K78 o80.2.2.1 o80.2.2.2 o80.2.1
    )
  )
theorem hd_X0_isSorted : Hd yX0_isSorted 0 := by unfold Hd; decide +kernel
set_option maxHeartbeats 4000000 in
set_option maxRecDepth 100000 in
theorem m_X0_isSorted {l : Launch} {D : DD} (x0 : Nat) (x0r0 : Nat) (x0r0r0 : Nat) (x0r0r1 : Nat) (x0r0r2 : Nat)  (x0r0r0c : Nat → UInt64) (x0r0r1c : Nat → UInt64) (x0r0r2c : Nat → Int32) (x0r0f3 : Int32) (x0r0f4 : Int32) (x0r0f5 : Int32) (x0r0f6 : Int32) (r : Bool × Int32 × (Nat → UInt64) × (Nat → Int32)) (h : f_X0_isSorted x0r0r0c x0r0r1c x0r0r2c x0r0f3 x0r0f4 x0r0f5 x0r0f6 = some r) : MT l D yX0_isSorted cX0_isSorted 7 (some .boolean) 7 173 112 2354 [.ref x0] (fun H => OA D 1 x0 [.ref x0r0] H ∧ ON D 0 x0r0 [.ref x0r0r0, .ref x0r0r1, .ref x0r0r2, .int x0r0f3, .int x0r0f4, .int x0r0f5, .int x0r0f6] H ∧ dB D ≤ x0r0 ∧ aD D x0r0r0 8 x0r0r0c H ∧ dB D ≤ x0r0r0 ∧ aD D x0r0r1 8 x0r0r1c H ∧ aZ D x0r0r2 8 x0r0r2c H ∧ dB D ≤ x0r0r2 ∧ x0 ≠ x0r0 ∧ x0 ≠ x0r0r0 ∧ x0 ≠ x0r0r2 ∧ x0r0 ≠ x0r0r0 ∧ x0r0 ≠ x0r0r1 ∧ x0r0 ≠ x0r0r2 ∧ x0r0r0 ≠ x0r0r1 ∧ x0r0r0 ≠ x0r0r2 ∧ x0r0r1 ≠ x0r0r2) (pZ (fun H b H' => b = r.1 ∧ ON D 0 x0r0 [.ref x0r0r0, .ref x0r0r1, .ref x0r0r2, .int r.2.1, .int x0r0f4, .int x0r0f5, .int x0r0f6] H' ∧ aD D x0r0r0 8 r.2.2.1 H' ∧ aZ D x0r0r2 8 r.2.2.2 H' ∧ Off (fun a => a = x0r0 ∨ a = x0r0r0 ∨ a = x0r0r2) H H')) := by
  refine MT.start (by decide +kernel) (Nat.le_of_ble_eq_true rfl) ?_
  intro p e s m below meth c ls hC hS hp hl
  obtain ⟨h_x0, h_x0r0, hB_h_x0r0, h_x0r0r0, hB_h_x0r0r0, h_x0r0r1, h_x0r0r2, hB_h_x0r0r2, ne_x0_x0r0, ne_x0_x0r0r0, ne_x0_x0r0r2, ne_x0r0_x0r0r0, ne_x0r0_x0r0r1, ne_x0r0_x0r0r2, ne_x0r0r0_x0r0r1, ne_x0r0r0_x0r0r2, ne_x0r0r1_x0r0r2⟩ := hp
  obtain ⟨hx, hb, hr, hlk, hml, hown, hts, hnm⟩ := id hC
  have hl : lv_has ls 7 [(0, .ref x0)] := hl
  unfold f_X0_isSorted at h
  have hS0 := hS
  obtain ⟨A, eA⟩ : ∃ A : Array Value, A = [.ref x0].toArray := ⟨_, rfl⟩
  rw [← eA] at hC hts ⊢
  obtain ⟨Q, eQ⟩ : ∃ Q : State → Prop, Q = MQ below (TQ D (pZ (fun H b H' => b = r.1 ∧ ON D 0 x0r0 [.ref x0r0r0, .ref x0r0r1, .ref x0r0r2, .int r.2.1, .int x0r0f4, .int x0r0f5, .int x0r0f6] H' ∧ aD D x0r0r0 8 r.2.2.1 H' ∧ aZ D x0r0r2 8 r.2.2.2 H' ∧ Off (fun a => a = x0r0 ∨ a = x0r0r0 ∨ a = x0r0r2) H H'))) A s 112 2354 (fun q => dB D ≤ q) := ⟨_, rfl⟩
  have hF : Off (fun a => a = x0r0 ∨ a = x0r0r0 ∨ a = x0r0r2) s.heap s.heap := Off.rf
  show W p l e R_X0_isSorted s m A below meth c s.heap [] 0 0 _ _
  rw [← eQ]
  obtain ⟨H, eH⟩ : ∃ H : Heap, H = s.heap := ⟨_, rfl⟩
  obtain ⟨locs, eLc⟩ : ∃ L : List Loc, L = [] := ⟨_, rfl⟩
  have lt_h_x0 := h_x0.lt
  have lt_h_x0r0 := h_x0r0.lt
  have lt_h_x0r0r0 := h_x0r0r0.lt
  have lt_h_x0r0r1 := h_x0r0r1.lt
  have lt_h_x0r0r2 := h_x0r0r2.lt
  rw [← eH, ← eLc]
  have hF : Off (fun a => a = x0r0 ∨ a = x0r0r0 ∨ a = x0r0r2) s.heap H := by rw [eH]; exact hF
  rw [← eH] at h_x0
  rw [← eH] at h_x0r0
  rw [← eH] at h_x0r0r0
  rw [← eH] at h_x0r0r1
  rw [← eH] at h_x0r0r2
  have hS : St D s H locs := by rw [eH, eLc]; exact hS
  refine lv_lconst (v := 0) hx hb dX0_isSorted_0 rfl ?_
  refine lv_lstore_n (lv' := [(1, .long 0), (0, .ref x0)]) hx hb dX0_isSorted_1 rfl hl (by decide) rfl (fun ls hl => ?_)
  refine lv_lconst (v := 0) hx hb dX0_isSorted_2 rfl ?_
  refine lv_lstore_n (lv' := [(3, .long 0), (1, .long 0), (0, .ref x0)]) hx hb dX0_isSorted_3 rfl hl (by decide) rfl (fun ls hl => ?_)
  refine lv_iconst (v := 0) hx hb dX0_isSorted_4 (by decide) ?_
  refine lv_istore (lv' := [(5, .int 0), (3, .long 0), (1, .long 0), (0, .ref x0)]) hx hb dX0_isSorted_5 hl (by decide) rfl (fun ls hl => ?_)
  obtain ⟨F12, eF12, h⟩ := lt_step h
  obtain ⟨w13, ew13, h⟩ := bind_step h
  obtain ⟨CE, eCE⟩ : ∃ x : Nat, x = 0 + 45 := ⟨_, rfl⟩
  obtain ⟨SE, eSE⟩ : ∃ x : Nat, x = 0 + 1152 := ⟨_, rfl⟩
  have hCE : CE ≤ R_X0_isSorted.cells := (by rw [eCE]; exact Nat.le_of_ble_eq_true rfl)
  have hSE : SE ≤ R_X0_isSorted.slots := (by rw [eSE]; exact Nat.le_of_ble_eq_true rfl)
  have HL : ∀ (n : Nat) (v1 : Int64) (v2 : Int32) (w13 : Int64) (hk0 : lp n (fun x => F12 x.1 x.2) (v1, v2) = some w13) (cl : Nat) (sl : Nat) (hcl : cl + 5 * n ≤ CE) (hsl : sl + 128 * n ≤ SE) (H : Heap) (locs : List Loc) (hS : St D s H locs) (hF : Off (fun a => a = x0r0 ∨ a = x0r0r0 ∨ a = x0r0r2) s.heap H) (h_x0 : OA D 1 x0 [.ref x0r0] H) (h_x0r0 : ON D 0 x0r0 [.ref x0r0r0, .ref x0r0r1, .ref x0r0r2, .int x0r0f3, .int x0r0f4, .int x0r0f5, .int x0r0f6] H) (h_x0r0r0 : aD D x0r0r0 8 x0r0r0c H) (h_x0r0r1 : aD D x0r0r1 8 x0r0r1c H) (h_x0r0r2 : aZ D x0r0r2 8 x0r0r2c H) (ls : Array Slot) (hl : lv_has ls 7 [(0, .ref x0), (1, .long v1), (3, .long 0), (5, .int v2)]) (K36 : ∀ (H : Heap) (locs : List Loc) (hS : St D s H locs) (hF : Off (fun a => a = x0r0 ∨ a = x0r0r0 ∨ a = x0r0r2) s.heap H) (h_x0 : OA D 1 x0 [.ref x0r0] H) (h_x0r0 : ON D 0 x0r0 [.ref x0r0r0, .ref x0r0r1, .ref x0r0r2, .int x0r0f3, .int x0r0f4, .int x0r0f5, .int x0r0f6] H) (h_x0r0r0 : aD D x0r0r0 8 x0r0r0c H) (h_x0r0r1 : aD D x0r0r1 8 x0r0r1c H) (h_x0r0r2 : aZ D x0r0r2 8 x0r0r2c H) (ls : Array Slot) (hl : lv_has ls 7 [(0, .ref x0), (1, .long w13), (3, .long 0)]), W p l e R_X0_isSorted s m A below meth c H locs CE SE Q (F0 m 36 ls [])), W p l e R_X0_isSorted s m A below meth c H locs cl sl Q (F0 m 7 ls []) := by
    intro n
    induction n with
    | zero => intro v1 v2 w13 hk0 cl sl hcl hsl H locs hS hF h_x0 h_x0r0 h_x0r0r0 h_x0r0r1 h_x0r0r2 ls hl K36; exact lp_zero hk0
    | succ n ih =>
      intro v1 v2 w13 hk0 cl sl hcl hsl H locs hS hF h_x0 h_x0r0 h_x0r0r0 h_x0r0r1 h_x0r0r2 ls hl K36
      obtain ⟨z14, hz, hk⟩ := lp_step hk0
      have h := (congrFun (congrFun (eF12) v1) v2).symm.trans hz
      have hcO : cl + 5 ≤ CE := al_out hcl
      have hcE : cl + 5 ≤ R_X0_isSorted.cells := Nat.le_trans hcO hCE
      have hcN : ∀ a, a ≤ 5 → cl + a + 5 * n ≤ CE := fun a ha => al_next hcl ha
      have hcN0 : cl + 5 * n ≤ CE := al_next hcl (Nat.zero_le _)
      have hsO : sl + 128 ≤ SE := al_out hsl
      have hsE : sl + 128 ≤ R_X0_isSorted.slots := Nat.le_trans hsO hSE
      have hsN : ∀ a, a ≤ 128 → sl + a + 128 * n ≤ SE := fun a ha => al_next hsl ha
      have hsN0 : sl + 128 * n ≤ SE := al_next hsl (Nat.zero_le _)
      clear hcl hsl
      refine lv_iload hx hb dX0_isSorted_7 (lv_at hl 3 rfl) ?_
      refine lv_bipush (v := 8) hx hb dX0_isSorted_9 (by decide) ?_
      refine lv_icmp_ge (tgt := 36) hx hb dX0_isSorted_11 (by decide) (fun c15 => ?_) (fun c15 => ?_)
      · have h := it_pos h c15
        obtain rfl := Option.some.inj h
        obtain rfl := id hk
        refine W.widen (k := CE) (n := SE) (by omega) (by omega) ?_
        exact K36 H locs hS hF h_x0 h_x0r0 h_x0r0r0 h_x0r0r1 h_x0r0r2 ls (lv_sub hl [0, 1, 2] rfl)
      · have h := it_neg h c15
        refine lv_lload_n hx hb dX0_isSorted_14 rfl (lv_at hl 1 rfl) ?_
        refine lv_aload_n hx hb dX0_isSorted_15 rfl (lv_at hl 0 rfl) ?_
        refine r_get hx hb hts hown hS h_x0 rfl in_X0 0 (by decide) q936 rfl (v := .ref x0r0) rfl dX0_isSorted_16 ?_
        refine lv_iload hx hb dX0_isSorted_19 (lv_at hl 3 rfl) ?_
        obtain ⟨o16, eo16, h⟩ := bind_step h
        refine r_cr (r_runV (rest := [.long v1]) (As := [.int v2]) hC 1 (m_X1_angleText x0r0 x0r0r0 x0r0r1 x0r0r2  x0r0r0c x0r0r1c x0r0r2c x0r0f3 x0r0f4 x0r0f5 x0r0f6 v2 o16 eo16) q948 q949 q950 q46 q951 (OA.recv hS h_x0r0.OA (C := RX1) rfl) hd_X1_angleText rfl ⟨Nat.le_of_ble_eq_true rfl, Nat.le_of_ble_eq_true rfl⟩ hS ⟨h_x0r0, h_x0r0r0, h_x0r0r1, h_x0r0r2⟩ hl.1 rfl (Nat.le_of_ble_eq_true rfl) dX0_isSorted_21 ⟨by have := hcE; have := hsE; omega, by have := hcE; have := hsE; omega⟩) hS (fun ad17 H locs hp hS hz => ?_)
        obtain ⟨ad18, had17, had18, lo16_1, frad18, frad17, ne_ad17_ad18, hO⟩ := hp
        have ne_h_x0_had17 : x0 ≠ ad17 := Nat.ne_of_lt (Nat.lt_of_lt_of_le h_x0.lt frad17)
        have ne_h_x0r0_had17 : x0r0 ≠ ad17 := Nat.ne_of_lt (Nat.lt_of_lt_of_le h_x0r0.lt frad17)
        have ne_h_x0r0r0_had17 : x0r0r0 ≠ ad17 := Nat.ne_of_lt (Nat.lt_of_lt_of_le h_x0r0r0.lt frad17)
        have ne_h_x0r0r1_had17 : x0r0r1 ≠ ad17 := Nat.ne_of_lt (Nat.lt_of_lt_of_le h_x0r0r1.lt frad17)
        have ne_h_x0r0r2_had17 : x0r0r2 ≠ ad17 := Nat.ne_of_lt (Nat.lt_of_lt_of_le h_x0r0r2.lt frad17)
        have gad17 : s.heap.size ≤ ad17 := Nat.le_trans hF.1 frad17
        have hB_had17 : dB D ≤ ad17 := by have := hS0.1.2.2.1; omega
        have ne_h_x0_had18 : x0 ≠ ad18 := Nat.ne_of_lt (Nat.lt_of_lt_of_le h_x0.lt frad18)
        have ne_h_x0r0_had18 : x0r0 ≠ ad18 := Nat.ne_of_lt (Nat.lt_of_lt_of_le h_x0r0.lt frad18)
        have ne_h_x0r0r0_had18 : x0r0r0 ≠ ad18 := Nat.ne_of_lt (Nat.lt_of_lt_of_le h_x0r0r0.lt frad18)
        have ne_h_x0r0r1_had18 : x0r0r1 ≠ ad18 := Nat.ne_of_lt (Nat.lt_of_lt_of_le h_x0r0r1.lt frad18)
        have ne_h_x0r0r2_had18 : x0r0r2 ≠ ad18 := Nat.ne_of_lt (Nat.lt_of_lt_of_le h_x0r0r2.lt frad18)
        have gad18 : s.heap.size ≤ ad18 := Nat.le_trans hF.1 frad18
        have hB_had18 : dB D ≤ ad18 := by have := hS0.1.2.2.1; omega
        have h_x0 := h_x0.ext hO
        have h_x0r0 := h_x0r0.ext hO
        have h_x0r0r0 := h_x0r0r0.ext hO
        have h_x0r0r1 := h_x0r0r1.ext hO
        have h_x0r0r2 := h_x0r0r2.ext hO
        have hF := hF.trans (hO.mono (fun _ _ z => z.elim))
        obtain ⟨o19, eo19, h⟩ := bind_step h
        refine r_ci (r_runV (rest := [.long v1]) (As := []) hC 0 (m_J5_hashCode ad17 ad18  o16.1 o16.2 o19 eo19) q1609 q1610 q1611 q45 q1612 (OA.recv hS had17.OA (C := RJ5) rfl) hd_J5_hashCode rfl ⟨Nat.le_of_ble_eq_true rfl, Nat.le_of_ble_eq_true rfl⟩ hS ⟨had17, hB_had17, had18, lo16_1, hB_had18, ne_ad17_ad18⟩ hl.1 rfl (Nat.le_of_ble_eq_true rfl) dX0_isSorted_24 ⟨by have := hcE; have := hsE; omega, by have := hcE; have := hsE; omega⟩) hS (fun b H locs hp hS hz => ?_)
        obtain ⟨rfl, had17, hO⟩ := hp
        have h_x0 := h_x0.off hO ne_h_x0_had17
        have h_x0r0 := h_x0r0.off hO ne_h_x0r0_had17
        have h_x0r0r0 := h_x0r0r0.off hO ne_h_x0r0r0_had17
        have h_x0r0r1 := h_x0r0r1.off hO ne_h_x0r0r1_had17
        have h_x0r0r2 := h_x0r0r2.off hO ne_h_x0r0r2_had17
        have had18 := had18.off hO (Ne.symm ne_ad17_ad18)
        have hF := hF.fresh hO (fun a ha z => absurd (z ▸ ha) (Nat.not_lt.mpr gad17))
        obtain ⟨v20, ev20, h⟩ := ltl_step h
        refine r_i2l hx hb ev20 dX0_isSorted_27 ?_
        obtain ⟨v21, ev21, h⟩ := ltl_step h
        refine r_ladd hx hb ev21 dX0_isSorted_28 ?_
        refine lv_lstore_n (lv' := [(1, .long v21), (0, .ref x0), (3, .long 0), (5, .int v2)]) hx hb dX0_isSorted_29 rfl hl (by decide) rfl (fun ls hl => ?_)
        obtain ⟨v22, ev22, h⟩ := lti_step h
        refine lv_iinc (v := v22) (lv' := [(5, .int v22), (1, .long v21), (0, .ref x0), (3, .long 0)]) hx hb dX0_isSorted_30 hl (k := 3) rfl (by rw [ev22]; rfl) (by decide) rfl (fun ls hl => ?_)
        refine lv_goto (tgt := 7) hx hb dX0_isSorted_33 (by decide) ?_
        obtain rfl := Option.some.inj h
        exact ih v21 v22 w13 hk _ _ (hcN 5 (Nat.le_of_ble_eq_true rfl)) (hsN 128 (Nat.le_of_ble_eq_true rfl)) H locs hS hF h_x0 h_x0r0 h_x0r0r0 h_x0r0r1 h_x0r0r2 ls (lv_sub hl [2, 1, 3, 0] rfl) K36
  clear eF12
  refine HL 9 0 0 w13 ew13 _ _ (Nat.le_of_eq eCE.symm) (Nat.le_of_eq eSE.symm) H locs hS hF h_x0 h_x0r0 h_x0r0r0 h_x0r0r1 h_x0r0r2 ls (lv_sub hl [3, 2, 1, 0] rfl) (fun  H locs hS hF h_x0 h_x0r0 h_x0r0r0 h_x0r0r1 h_x0r0r2 ls hl => ?_)
  rw [eCE, eSE]
  refine lv_aload_n hx hb dX0_isSorted_36 rfl (lv_at hl 0 rfl) ?_
  refine r_get hx hb hts hown hS h_x0 rfl in_X0 0 (by decide) q936 rfl (v := .ref x0r0) rfl dX0_isSorted_37 ?_
  obtain ⟨o23, eo23, h⟩ := bind_step h
  refine r_ci (r_runV (rest := []) (As := []) hC 0 (m_X1_angleSort x0r0 x0r0r0 x0r0r1 x0r0r2  x0r0r0c x0r0r1c x0r0r2c x0r0f3 x0r0f4 x0r0f5 x0r0f6 o23 eo23) q1666 q1667 q1668 q46 q1669 (OA.recv hS h_x0r0.OA (C := RX1) rfl) hd_X1_angleSort rfl ⟨Nat.le_of_ble_eq_true rfl, Nat.le_of_ble_eq_true rfl⟩ hS ⟨h_x0r0, hB_h_x0r0, h_x0r0r0, hB_h_x0r0r0, h_x0r0r1, h_x0r0r2, hB_h_x0r0r2, ne_x0r0_x0r0r0, ne_x0r0_x0r0r1, ne_x0r0_x0r0r2, ne_x0r0r0_x0r0r1, ne_x0r0r0_x0r0r2, ne_x0r0r1_x0r0r2⟩ hl.1 rfl (Nat.le_of_ble_eq_true rfl) dX0_isSorted_40 ⟨Nat.le_of_ble_eq_true rfl, Nat.le_of_ble_eq_true rfl⟩) hS (fun b H locs hp hS hz => ?_)
  obtain ⟨rfl, h_x0r0, h_x0r0r0, h_x0r0r2, hO⟩ := hp
  have h_x0 := h_x0.off hO (fun z => by rcases z with z | z | z <;> first | exact ne_x0_x0r0 z | exact ne_x0_x0r0r0 z | exact ne_x0_x0r0r2 z)
  have h_x0r0r1 := h_x0r0r1.off hO (fun z => by rcases z with z | z | z <;> first | exact (Ne.symm ne_x0r0_x0r0r1) z | exact (Ne.symm ne_x0r0r0_x0r0r1) z | exact ne_x0r0r1_x0r0r2 z)
  have hF := hF.fresh hO (fun a ha z => by
    rcases z with z | z | z
    · exact Or.inl z
    · exact Or.inr (Or.inl z)
    · exact Or.inr (Or.inr (z)))
  obtain ⟨K28, eK28, h⟩ := lt_step h
  have HK28 : ∀ (f24 : Nat → UInt64) (f25 : Nat → Int32) (v26 : Int32) (v27 : Bool) (h : K28 f24 f25 v26 v27 = some r) (H : Heap) (locs : List Loc) (hS : St D s H locs) (hF : Off (fun a => a = x0r0 ∨ a = x0r0r0 ∨ a = x0r0r2) s.heap H) (h_x0 : OA D 1 x0 [.ref x0r0] H) (h_x0r0 : ON D 0 x0r0 [.ref x0r0r0, .ref x0r0r1, .ref x0r0r2, .int v26, .int x0r0f4, .int x0r0f5, .int x0r0f6] H) (h_x0r0r0 : aD D x0r0r0 8 f24 H) (h_x0r0r1 : aD D x0r0r1 8 x0r0r1c H) (h_x0r0r2 : aZ D x0r0r2 8 f25 H) (ls : Array Slot) (hl : lv_has ls 7 [(0, .ref x0), (1, .long w13), (3, .long 0)]), W p l e R_X0_isSorted s m A below meth c H locs 49 1184 Q (F0 m 61 ls [.int (bI v27)]) := by
    intro f24 f25 v26 v27 h H locs hS hF h_x0 h_x0r0 h_x0r0r0 h_x0r0r1 h_x0r0r2 ls hl
    subst eK28
    refine lv_istore (lv' := [(5, .int (bI v27)), (0, .ref x0), (1, .long w13), (3, .long 0)]) hx hb dX0_isSorted_61 hl (by decide) rfl (fun ls hl => ?_)
    refine lv_iconst (v := 0) hx hb dX0_isSorted_63 (by decide) ?_
    refine lv_istore (lv' := [(6, .int 0), (5, .int (bI v27)), (0, .ref x0), (1, .long w13), (3, .long 0)]) hx hb dX0_isSorted_64 hl (by decide) rfl (fun ls hl => ?_)
    obtain ⟨F51, eF51, h⟩ := lt_step h
    obtain ⟨w52, ew52, h⟩ := bind_step h
    obtain ⟨CE, eCE⟩ : ∃ x : Nat, x = 49 + 63 := ⟨_, rfl⟩
    obtain ⟨SE, eSE⟩ : ∃ x : Nat, x = 1184 + 1170 := ⟨_, rfl⟩
    have hCE : CE ≤ R_X0_isSorted.cells := (by rw [eCE]; exact Nat.le_of_ble_eq_true rfl)
    have hSE : SE ≤ R_X0_isSorted.slots := (by rw [eSE]; exact Nat.le_of_ble_eq_true rfl)
    have HL : ∀ (n : Nat) (v29 : Int64) (v30 : Bool) (v31 : Int32) (w52 : Int64 × Bool) (hk0 : lp n (fun x => F51 x.1 x.2.1 x.2.2) (v29, v30, v31) = some w52) (cl : Nat) (sl : Nat) (hcl : cl + 7 * n ≤ CE) (hsl : sl + 130 * n ≤ SE) (H : Heap) (locs : List Loc) (hS : St D s H locs) (hF : Off (fun a => a = x0r0 ∨ a = x0r0r0 ∨ a = x0r0r2) s.heap H) (h_x0 : OA D 1 x0 [.ref x0r0] H) (h_x0r0 : ON D 0 x0r0 [.ref x0r0r0, .ref x0r0r1, .ref x0r0r2, .int v26, .int x0r0f4, .int x0r0f5, .int x0r0f6] H) (h_x0r0r0 : aD D x0r0r0 8 f24 H) (h_x0r0r1 : aD D x0r0r1 8 x0r0r1c H) (h_x0r0r2 : aZ D x0r0r2 8 f25 H) (ls : Array Slot) (hl : lv_has ls 7 [(0, .ref x0), (1, .long w13), (3, .long v29), (5, .int (bI v30)), (6, .int v31)]) (K132 : ∀ (H : Heap) (locs : List Loc) (hS : St D s H locs) (hF : Off (fun a => a = x0r0 ∨ a = x0r0r0 ∨ a = x0r0r2) s.heap H) (h_x0 : OA D 1 x0 [.ref x0r0] H) (h_x0r0 : ON D 0 x0r0 [.ref x0r0r0, .ref x0r0r1, .ref x0r0r2, .int v26, .int x0r0f4, .int x0r0f5, .int x0r0f6] H) (h_x0r0r0 : aD D x0r0r0 8 f24 H) (h_x0r0r1 : aD D x0r0r1 8 x0r0r1c H) (h_x0r0r2 : aZ D x0r0r2 8 f25 H) (ls : Array Slot) (hl : lv_has ls 7 [(1, .long w13), (3, .long w52.1), (5, .int (bI w52.2))]), W p l e R_X0_isSorted s m A below meth c H locs CE SE Q (F0 m 132 ls [])), W p l e R_X0_isSorted s m A below meth c H locs cl sl Q (F0 m 66 ls []) := by
      intro n
      induction n with
      | zero => intro v29 v30 v31 w52 hk0 cl sl hcl hsl H locs hS hF h_x0 h_x0r0 h_x0r0r0 h_x0r0r1 h_x0r0r2 ls hl K132; exact lp_zero hk0
      | succ n ih =>
        intro v29 v30 v31 w52 hk0 cl sl hcl hsl H locs hS hF h_x0 h_x0r0 h_x0r0r0 h_x0r0r1 h_x0r0r2 ls hl K132
        obtain ⟨z53, hz, hk⟩ := lp_step hk0
        have h := (congrFun (congrFun (congrFun (eF51) v29) v30) v31).symm.trans hz
        have hcO : cl + 7 ≤ CE := al_out hcl
        have hcE : cl + 7 ≤ R_X0_isSorted.cells := Nat.le_trans hcO hCE
        have hcN : ∀ a, a ≤ 7 → cl + a + 7 * n ≤ CE := fun a ha => al_next hcl ha
        have hcN0 : cl + 7 * n ≤ CE := al_next hcl (Nat.zero_le _)
        have hsO : sl + 130 ≤ SE := al_out hsl
        have hsE : sl + 130 ≤ R_X0_isSorted.slots := Nat.le_trans hsO hSE
        have hsN : ∀ a, a ≤ 130 → sl + a + 130 * n ≤ SE := fun a ha => al_next hsl ha
        have hsN0 : sl + 130 * n ≤ SE := al_next hsl (Nat.zero_le _)
        clear hcl hsl
        refine lv_iload hx hb dX0_isSorted_66 (lv_at hl 4 rfl) ?_
        refine lv_bipush (v := 8) hx hb dX0_isSorted_68 (by decide) ?_
        refine lv_icmp_ge (tgt := 132) hx hb dX0_isSorted_70 (by decide) (fun c54 => ?_) (fun c54 => ?_)
        · have h := it_pos h c54
          obtain rfl := Option.some.inj h
          obtain rfl := id hk
          refine W.widen (k := CE) (n := SE) (by omega) (by omega) ?_
          exact K132 H locs hS hF h_x0 h_x0r0 h_x0r0r0 h_x0r0r1 h_x0r0r2 ls (lv_sub hl [1, 2, 3] rfl)
        · have h := it_neg h c54
          refine lv_lload_n hx hb dX0_isSorted_73 rfl (lv_at hl 2 rfl) ?_
          refine lv_aload_n hx hb dX0_isSorted_74 rfl (lv_at hl 0 rfl) ?_
          refine r_get hx hb hts hown hS h_x0 rfl in_X0 0 (by decide) q936 rfl (v := .ref x0r0) rfl dX0_isSorted_75 ?_
          refine lv_iload hx hb dX0_isSorted_78 (lv_at hl 4 rfl) ?_
          obtain ⟨o55, eo55, h⟩ := bind_step h
          refine r_cr (r_runV (rest := [.long v29]) (As := [.int v31]) hC 1 (m_X1_angleText x0r0 x0r0r0 x0r0r1 x0r0r2  f24 x0r0r1c f25 v26 x0r0f4 x0r0f5 x0r0f6 v31 o55 eo55) q948 q949 q950 q46 q951 (OA.recv hS h_x0r0.OA (C := RX1) rfl) hd_X1_angleText rfl ⟨Nat.le_of_ble_eq_true rfl, Nat.le_of_ble_eq_true rfl⟩ hS ⟨h_x0r0, h_x0r0r0, h_x0r0r1, h_x0r0r2⟩ hl.1 rfl (Nat.le_of_ble_eq_true rfl) dX0_isSorted_80 ⟨by have := hcE; have := hsE; omega, by have := hcE; have := hsE; omega⟩) hS (fun ad56 H locs hp hS hz => ?_)
          obtain ⟨ad57, had56, had57, lo55_1, frad57, frad56, ne_ad56_ad57, hO⟩ := hp
          have ne_h_x0_had56 : x0 ≠ ad56 := Nat.ne_of_lt (Nat.lt_of_lt_of_le h_x0.lt frad56)
          have ne_h_x0r0_had56 : x0r0 ≠ ad56 := Nat.ne_of_lt (Nat.lt_of_lt_of_le h_x0r0.lt frad56)
          have ne_h_x0r0r0_had56 : x0r0r0 ≠ ad56 := Nat.ne_of_lt (Nat.lt_of_lt_of_le h_x0r0r0.lt frad56)
          have ne_h_x0r0r1_had56 : x0r0r1 ≠ ad56 := Nat.ne_of_lt (Nat.lt_of_lt_of_le h_x0r0r1.lt frad56)
          have ne_h_x0r0r2_had56 : x0r0r2 ≠ ad56 := Nat.ne_of_lt (Nat.lt_of_lt_of_le h_x0r0r2.lt frad56)
          have gad56 : s.heap.size ≤ ad56 := Nat.le_trans hF.1 frad56
          have hB_had56 : dB D ≤ ad56 := by have := hS0.1.2.2.1; omega
          have ne_h_x0_had57 : x0 ≠ ad57 := Nat.ne_of_lt (Nat.lt_of_lt_of_le h_x0.lt frad57)
          have ne_h_x0r0_had57 : x0r0 ≠ ad57 := Nat.ne_of_lt (Nat.lt_of_lt_of_le h_x0r0.lt frad57)
          have ne_h_x0r0r0_had57 : x0r0r0 ≠ ad57 := Nat.ne_of_lt (Nat.lt_of_lt_of_le h_x0r0r0.lt frad57)
          have ne_h_x0r0r1_had57 : x0r0r1 ≠ ad57 := Nat.ne_of_lt (Nat.lt_of_lt_of_le h_x0r0r1.lt frad57)
          have ne_h_x0r0r2_had57 : x0r0r2 ≠ ad57 := Nat.ne_of_lt (Nat.lt_of_lt_of_le h_x0r0r2.lt frad57)
          have gad57 : s.heap.size ≤ ad57 := Nat.le_trans hF.1 frad57
          have hB_had57 : dB D ≤ ad57 := by have := hS0.1.2.2.1; omega
          have h_x0 := h_x0.ext hO
          have h_x0r0 := h_x0r0.ext hO
          have h_x0r0r0 := h_x0r0r0.ext hO
          have h_x0r0r1 := h_x0r0r1.ext hO
          have h_x0r0r2 := h_x0r0r2.ext hO
          have hF := hF.trans (hO.mono (fun _ _ z => z.elim))
          obtain ⟨o58, eo58, h⟩ := bind_step h
          refine r_ci (r_runV (rest := [.long v29]) (As := []) hC 0 (m_J5_hashCode ad56 ad57  o55.1 o55.2 o58 eo58) q1609 q1610 q1611 q45 q1612 (OA.recv hS had56.OA (C := RJ5) rfl) hd_J5_hashCode rfl ⟨Nat.le_of_ble_eq_true rfl, Nat.le_of_ble_eq_true rfl⟩ hS ⟨had56, hB_had56, had57, lo55_1, hB_had57, ne_ad56_ad57⟩ hl.1 rfl (Nat.le_of_ble_eq_true rfl) dX0_isSorted_83 ⟨by have := hcE; have := hsE; omega, by have := hcE; have := hsE; omega⟩) hS (fun b H locs hp hS hz => ?_)
          obtain ⟨rfl, had56, hO⟩ := hp
          have h_x0 := h_x0.off hO ne_h_x0_had56
          have h_x0r0 := h_x0r0.off hO ne_h_x0r0_had56
          have h_x0r0r0 := h_x0r0r0.off hO ne_h_x0r0r0_had56
          have h_x0r0r1 := h_x0r0r1.off hO ne_h_x0r0r1_had56
          have h_x0r0r2 := h_x0r0r2.off hO ne_h_x0r0r2_had56
          have had57 := had57.off hO (Ne.symm ne_ad56_ad57)
          have hF := hF.fresh hO (fun a ha z => absurd (z ▸ ha) (Nat.not_lt.mpr gad56))
          obtain ⟨v59, ev59, h⟩ := ltl_step h
          refine r_i2l hx hb ev59 dX0_isSorted_86 ?_
          obtain ⟨v60, ev60, h⟩ := ltl_step h
          refine r_ladd hx hb ev60 dX0_isSorted_87 ?_
          refine lv_lstore_n (lv' := [(3, .long v60), (0, .ref x0), (1, .long w13), (5, .int (bI v30)), (6, .int v31)]) hx hb dX0_isSorted_88 rfl hl (by decide) rfl (fun ls hl => ?_)
          refine lv_iload hx hb dX0_isSorted_89 (lv_at hl 3 rfl) ?_
          obtain ⟨K62, eK62, h⟩ := lt_step h
          have HK62 : ∀ (v61 : Bool) (h : K62 v61 = some z53) (H : Heap) (locs : List Loc) (hS : St D s H locs) (hF : Off (fun a => a = x0r0 ∨ a = x0r0r0 ∨ a = x0r0r2) s.heap H) (h_x0 : OA D 1 x0 [.ref x0r0] H) (h_x0r0 : ON D 0 x0r0 [.ref x0r0r0, .ref x0r0r1, .ref x0r0r2, .int v26, .int x0r0f4, .int x0r0f5, .int x0r0f6] H) (h_x0r0r0 : aD D x0r0r0 8 f24 H) (h_x0r0r1 : aD D x0r0r1 8 x0r0r1c H) (h_x0r0r2 : aZ D x0r0r2 8 f25 H) (ls : Array Slot) (hl : lv_has ls 7 [(0, .ref x0), (1, .long w13), (3, .long v60), (6, .int v31)]), W p l e R_X0_isSorted s m A below meth c H locs (cl + 7) (sl + 130) Q (F0 m 124 ls [.int (bI v61)]) := by
            intro v61 h H locs hS hF h_x0 h_x0r0 h_x0r0r0 h_x0r0r1 h_x0r0r2 ls hl
            subst eK62
            refine lv_istore (lv' := [(5, .int (bI v61)), (0, .ref x0), (1, .long w13), (3, .long v60), (6, .int v31)]) hx hb dX0_isSorted_124 hl (by decide) rfl (fun ls hl => ?_)
            obtain ⟨v63, ev63, h⟩ := lti_step h
            refine lv_iinc (v := v63) (lv' := [(6, .int v63), (5, .int (bI v61)), (0, .ref x0), (1, .long w13), (3, .long v60)]) hx hb dX0_isSorted_126 hl (k := 4) rfl (by rw [ev63]; rfl) (by decide) rfl (fun ls hl => ?_)
            refine lv_goto (tgt := 66) hx hb dX0_isSorted_129 (by decide) ?_
            obtain rfl := Option.some.inj h
            exact ih v60 v61 v63 w52 hk _ _ (hcN 7 (Nat.le_of_ble_eq_true rfl)) (hsN 130 (Nat.le_of_ble_eq_true rfl)) H locs hS hF h_x0 h_x0r0 h_x0r0r0 h_x0r0r1 h_x0r0r2 ls (lv_sub hl [2, 3, 4, 1, 0] rfl) K132
          clear eK62
          obtain ⟨K64, eK64, h⟩ := lt_step h
          have HK64 : ∀  (h : K64 () = some z53) (H : Heap) (locs : List Loc) (hS : St D s H locs) (hF : Off (fun a => a = x0r0 ∨ a = x0r0r0 ∨ a = x0r0r2) s.heap H) (h_x0 : OA D 1 x0 [.ref x0r0] H) (h_x0r0 : ON D 0 x0r0 [.ref x0r0r0, .ref x0r0r1, .ref x0r0r2, .int v26, .int x0r0f4, .int x0r0f5, .int x0r0f6] H) (h_x0r0r0 : aD D x0r0r0 8 f24 H) (h_x0r0r1 : aD D x0r0r1 8 x0r0r1c H) (h_x0r0r2 : aZ D x0r0r2 8 f25 H) (ls : Array Slot) (hl : lv_has ls 7 [(0, .ref x0), (1, .long w13), (3, .long v60), (6, .int v31)]), W p l e R_X0_isSorted s m A below meth c H locs (cl + 7) (sl + 130) Q (F0 m 123 ls []) := by
            intro h H locs hS hF h_x0 h_x0r0 h_x0r0r0 h_x0r0r1 h_x0r0r2 ls hl
            subst eK64
            refine lv_iconst (v := 0) hx hb dX0_isSorted_123 (by decide) ?_
            exact HK62 false h H locs hS hF h_x0 h_x0r0 h_x0r0r0 h_x0r0r1 h_x0r0r2 ls (lv_sub hl [0, 1, 2, 3] rfl)
          clear eK64
          refine r_ifz_eq (tgt := 123) hx hb dX0_isSorted_91 (by decide) (fun c65 => ?_) (fun c65 => ?_)
          · have h := it_neg h (by rw [c65]; decide)
            refine W.widen (k := cl + 7) (n := sl + 130) (by omega) (by omega) ?_
            exact HK64  h H locs hS hF h_x0 h_x0r0 h_x0r0r0 h_x0r0r1 h_x0r0r2 ls (lv_sub hl [1, 2, 0, 4] rfl)
          · have h := it_pos h (by rw [c65])
            refine lv_iload hx hb dX0_isSorted_94 (lv_at hl 4 rfl) ?_
            obtain ⟨K66, eK66, h⟩ := lt_step h
            have HK66 : ∀  (h : K66 () = some z53) (H : Heap) (locs : List Loc) (hS : St D s H locs) (hF : Off (fun a => a = x0r0 ∨ a = x0r0r0 ∨ a = x0r0r2) s.heap H) (h_x0 : OA D 1 x0 [.ref x0r0] H) (h_x0r0 : ON D 0 x0r0 [.ref x0r0r0, .ref x0r0r1, .ref x0r0r2, .int v26, .int x0r0f4, .int x0r0f5, .int x0r0f6] H) (h_x0r0r0 : aD D x0r0r0 8 f24 H) (h_x0r0r1 : aD D x0r0r1 8 x0r0r1c H) (h_x0r0r2 : aZ D x0r0r2 8 f25 H) (ls : Array Slot) (hl : lv_has ls 7 [(0, .ref x0), (1, .long w13), (3, .long v60), (6, .int v31)]), W p l e R_X0_isSorted s m A below meth c H locs (cl + 7) (sl + 130) Q (F0 m 119 ls []) := by
              intro h H locs hS hF h_x0 h_x0r0 h_x0r0r0 h_x0r0r1 h_x0r0r2 ls hl
              subst eK66
              refine lv_iconst (v := 1) hx hb dX0_isSorted_119 (by decide) ?_
              refine lv_goto (tgt := 124) hx hb dX0_isSorted_120 (by decide) ?_
              exact HK62 true h H locs hS hF h_x0 h_x0r0 h_x0r0r0 h_x0r0r1 h_x0r0r2 ls (lv_sub hl [0, 1, 2, 3] rfl)
            clear eK66
            refine lv_if_eq (tgt := 119) hx hb dX0_isSorted_96 (by decide) (fun c67 => ?_) (fun c67 => ?_)
            · have h := it_pos h c67
              refine W.widen (k := cl + 7) (n := sl + 130) (by omega) (by omega) ?_
              exact HK66  h H locs hS hF h_x0 h_x0r0 h_x0r0r0 h_x0r0r1 h_x0r0r2 ls (lv_sub hl [1, 2, 0, 4] rfl)
            · have h := it_neg h c67
              refine lv_aload_n hx hb dX0_isSorted_99 rfl (lv_at hl 1 rfl) ?_
              refine r_get hx hb hts hown hS h_x0 rfl in_X0 0 (by decide) q936 rfl (v := .ref x0r0) rfl dX0_isSorted_100 ?_
              refine lv_iload hx hb dX0_isSorted_103 (lv_at hl 4 rfl) ?_
              refine lv_iconst (v := 1) hx hb dX0_isSorted_105 (by decide) ?_
              obtain ⟨v68, ev68, h⟩ := lti_step h
              refine r_isub hx hb ev68 dX0_isSorted_106 ?_
              refine lv_iload hx hb dX0_isSorted_107 (lv_at hl 4 rfl) ?_
              refine lv_iload hx hb dX0_isSorted_109 (lv_at hl 4 rfl) ?_
              refine lv_iconst (v := 1) hx hb dX0_isSorted_111 (by decide) ?_
              obtain ⟨v69, ev69, h⟩ := lti_step h
              refine r_iand hx hb ev69 dX0_isSorted_112 ?_
              obtain ⟨o70, eo70, h⟩ := bind_step h
              refine r_ci (r_runV (rest := []) (As := [.int v68, .int v31, .int v69]) hC 3 (m_X1_angleOrder x0r0 x0r0r0 x0r0r1 x0r0r2  f24 x0r0r1c f25 v26 x0r0f4 x0r0f5 x0r0f6 v68 v31 v69 o70 eo70) q1536 q1537 q1538 q46 q1539 (OA.recv hS h_x0r0.OA (C := RX1) rfl) hd_X1_angleOrder rfl ⟨Nat.le_of_ble_eq_true rfl, Nat.le_of_ble_eq_true rfl⟩ hS ⟨h_x0r0, h_x0r0r0, h_x0r0r1, h_x0r0r2⟩ hl.1 rfl (Nat.le_of_ble_eq_true rfl) dX0_isSorted_113 ⟨by have := hcE; have := hsE; omega, by have := hcE; have := hsE; omega⟩) hS (fun b H locs hp hS hz => ?_)
              obtain ⟨eb_, hO⟩ := hp
              rw [eb_]
              have h_x0 := h_x0.ext hO
              have h_x0r0 := h_x0r0.ext hO
              have h_x0r0r0 := h_x0r0r0.ext hO
              have h_x0r0r1 := h_x0r0r1.ext hO
              have h_x0r0r2 := h_x0r0r2.ext hO
              have had56 := had56.ext hO
              have had57 := had57.ext hO
              have hF := hF.trans (hO.mono (fun _ _ z => z.elim))
              refine lv_if_gt (tgt := 123) hx hb dX0_isSorted_116 (by decide) (fun c71 => ?_) (fun c71 => ?_)
              · have h := it_pos h c71
                exact HK64  h H locs hS hF h_x0 h_x0r0 h_x0r0r0 h_x0r0r1 h_x0r0r2 ls (lv_sub hl [1, 2, 0, 4] rfl)
              · have h := it_neg h c71
                exact HK66  h H locs hS hF h_x0 h_x0r0 h_x0r0r0 h_x0r0r1 h_x0r0r2 ls (lv_sub hl [1, 2, 0, 4] rfl)
    clear eF51
    refine HL 9 0 v27 0 w52 ew52 _ _ (Nat.le_of_eq eCE.symm) (Nat.le_of_eq eSE.symm) H locs hS hF h_x0 h_x0r0 h_x0r0r0 h_x0r0r1 h_x0r0r2 ls (lv_sub hl [2, 3, 4, 1, 0] rfl) (fun  H locs hS hF h_x0 h_x0r0 h_x0r0r0 h_x0r0r1 h_x0r0r2 ls hl => ?_)
    rw [eCE, eSE]
    refine lv_iload hx hb dX0_isSorted_132 (lv_at hl 2 rfl) ?_
    refine r_ifz_eq (tgt := 147) hx hb dX0_isSorted_134 (by decide) (fun c72 => ?_) (fun c72 => ?_)
    · have h := it_neg h (by rw [c72]; decide)
      refine lv_iconst (v := 0) hx hb dX0_isSorted_147 (by decide) ?_
      obtain rfl := Option.some.inj h
      rw [eQ]
      exact r_zret hx hb hr hlk hS (by decide) (Nat.le_of_ble_eq_true rfl) (Nat.le_of_ble_eq_true rfl) dX0_isSorted_148 ⟨_, rfl, rfl, h_x0r0, h_x0r0r0, h_x0r0r2, hF⟩
    · have h := it_pos h (by rw [c72])
      refine lv_lload_n hx hb dX0_isSorted_137 rfl (lv_at hl 0 rfl) ?_
      refine lv_lload_n hx hb dX0_isSorted_138 rfl (lv_at hl 1 rfl) ?_
      obtain ⟨v73, ev73, h⟩ := lti_step h
      refine r_lcmp hx hb ev73 dX0_isSorted_139 ?_
      refine lv_if_ne (tgt := 147) hx hb dX0_isSorted_140 (by decide) (fun c74 => ?_) (fun c74 => ?_)
      · have h := it_neg h c74
        refine lv_iconst (v := 0) hx hb dX0_isSorted_147 (by decide) ?_
        obtain rfl := Option.some.inj h
        rw [eQ]
        exact r_zret hx hb hr hlk hS (by decide) (Nat.le_of_ble_eq_true rfl) (Nat.le_of_ble_eq_true rfl) dX0_isSorted_148 ⟨_, rfl, rfl, h_x0r0, h_x0r0r0, h_x0r0r2, hF⟩
      · have h := it_pos h c74
        refine lv_iconst (v := 1) hx hb dX0_isSorted_143 (by decide) ?_
        refine lv_goto (tgt := 148) hx hb dX0_isSorted_144 (by decide) ?_
        obtain rfl := Option.some.inj h
        rw [eQ]
        exact r_zret hx hb hr hlk hS (by decide) (Nat.le_of_ble_eq_true rfl) (Nat.le_of_ble_eq_true rfl) dX0_isSorted_148 ⟨_, rfl, rfl, h_x0r0, h_x0r0r0, h_x0r0r2, hF⟩
  clear eK28
  obtain ⟨K78, eK78, h⟩ := lt_step h
  have HK78 : ∀ (f75 : Nat → UInt64) (f76 : Nat → Int32) (v77 : Int32) (h : K78 f75 f76 v77 = some r) (H : Heap) (locs : List Loc) (hS : St D s H locs) (hF : Off (fun a => a = x0r0 ∨ a = x0r0r0 ∨ a = x0r0r2) s.heap H) (h_x0 : OA D 1 x0 [.ref x0r0] H) (h_x0r0 : ON D 0 x0r0 [.ref x0r0r0, .ref x0r0r1, .ref x0r0r2, .int v77, .int x0r0f4, .int x0r0f5, .int x0r0f6] H) (h_x0r0r0 : aD D x0r0r0 8 f75 H) (h_x0r0r1 : aD D x0r0r1 8 x0r0r1c H) (h_x0r0r2 : aZ D x0r0r2 8 f76 H) (ls : Array Slot) (hl : lv_has ls 7 [(0, .ref x0), (1, .long w13), (3, .long 0)]), W p l e R_X0_isSorted s m A below meth c H locs 49 1184 Q (F0 m 60 ls []) := by
    intro f75 f76 v77 h H locs hS hF h_x0 h_x0r0 h_x0r0r0 h_x0r0r1 h_x0r0r2 ls hl
    subst eK78
    refine lv_iconst (v := 0) hx hb dX0_isSorted_60 (by decide) ?_
    exact HK28 f75 f76 v77 false h H locs hS hF h_x0 h_x0r0 h_x0r0r0 h_x0r0r1 h_x0r0r2 ls (lv_sub hl [0, 1, 2] rfl)
  clear eK78
  refine lv_if_lt (tgt := 60) hx hb dX0_isSorted_43 (by decide) (fun c79 => ?_) (fun c79 => ?_)
  · have h := it_pos h c79
    refine W.widen (k := 49) (n := 1184) (Nat.le_of_ble_eq_true rfl) (Nat.le_of_ble_eq_true rfl) ?_
    exact HK78 o23.2.2.1 o23.2.2.2 o23.2.1 h H locs hS hF h_x0 h_x0r0 h_x0r0r0 h_x0r0r1 h_x0r0r2 ls (lv_sub hl [0, 1, 2] rfl)
  · have h := it_neg h c79
    refine lv_aload_n hx hb dX0_isSorted_46 rfl (lv_at hl 0 rfl) ?_
    refine r_get hx hb hts hown hS h_x0 rfl in_X0 0 (by decide) q936 rfl (v := .ref x0r0) rfl dX0_isSorted_47 ?_
    obtain ⟨o80, eo80, h⟩ := bind_step h
    refine r_ci (r_runV (rest := []) (As := []) hC 0 (m_X1_angleSort x0r0 x0r0r0 x0r0r1 x0r0r2  o23.2.2.1 x0r0r1c o23.2.2.2 o23.2.1 x0r0f4 x0r0f5 x0r0f6 o80 eo80) q1666 q1667 q1668 q46 q1669 (OA.recv hS h_x0r0.OA (C := RX1) rfl) hd_X1_angleSort rfl ⟨Nat.le_of_ble_eq_true rfl, Nat.le_of_ble_eq_true rfl⟩ hS ⟨h_x0r0, hB_h_x0r0, h_x0r0r0, hB_h_x0r0r0, h_x0r0r1, h_x0r0r2, hB_h_x0r0r2, ne_x0r0_x0r0r0, ne_x0r0_x0r0r1, ne_x0r0_x0r0r2, ne_x0r0r0_x0r0r1, ne_x0r0r0_x0r0r2, ne_x0r0r1_x0r0r2⟩ hl.1 rfl (Nat.le_of_ble_eq_true rfl) dX0_isSorted_50 ⟨Nat.le_of_ble_eq_true rfl, Nat.le_of_ble_eq_true rfl⟩) hS (fun b H locs hp hS hz => ?_)
    obtain ⟨rfl, h_x0r0, h_x0r0r0, h_x0r0r2, hO⟩ := hp
    have h_x0 := h_x0.off hO (fun z => by rcases z with z | z | z <;> first | exact ne_x0_x0r0 z | exact ne_x0_x0r0r0 z | exact ne_x0_x0r0r2 z)
    have h_x0r0r1 := h_x0r0r1.off hO (fun z => by rcases z with z | z | z <;> first | exact (Ne.symm ne_x0r0_x0r0r1) z | exact (Ne.symm ne_x0r0r0_x0r0r1) z | exact ne_x0r0r1_x0r0r2 z)
    have hF := hF.fresh hO (fun a ha z => by
      rcases z with z | z | z
      · exact Or.inl z
      · exact Or.inr (Or.inl z)
      · exact Or.inr (Or.inr (z)))
    refine lv_if_ne (tgt := 60) hx hb dX0_isSorted_53 (by decide) (fun c81 => ?_) (fun c81 => ?_)
    · have h := it_neg h c81
      exact HK78 o80.2.2.1 o80.2.2.2 o80.2.1 h H locs hS hF h_x0 h_x0r0 h_x0r0r0 h_x0r0r1 h_x0r0r2 ls (lv_sub hl [0, 1, 2] rfl)
    · have h := it_pos h c81
      refine lv_iconst (v := 1) hx hb dX0_isSorted_56 (by decide) ?_
      refine lv_goto (tgt := 61) hx hb dX0_isSorted_57 (by decide) ?_
      exact HK28 o80.2.2.1 o80.2.2.2 o80.2.1 true h H locs hS hF h_x0 h_x0r0 h_x0r0r0 h_x0r0r1 h_x0r0r2 ls (lv_sub hl [0, 1, 2] rfl)

abbrev R_X0_its : Room := { frames := 7, cells := 11, slots := 260, locals := 174 }
noncomputable def f_X0_its (x0r0r0c : Nat → UInt64) (x0r0r1c : Nat → UInt64) (x0r0r2c : Nat → Int32) (x0r0f3 : Int32) (x0r0f4 : Int32) (x0r0f5 : Int32) (x0r0f6 : Int32) (x1 : Int32) : Option (Int64) :=
  Option.bind (f_X1_angleText x0r0r0c x0r0r1c x0r0r2c x0r0f3 x0r0f4 x0r0f5 x0r0f6 x1) fun o1 =>
  Option.bind (f_X0_part o1.1 o1.2 1) fun o4 =>
  lti (o4.toInt32) fun v5 =>
  Option.bind (f_X0_part o1.1 o1.2 2) fun o6 =>
  ltl ((4503599627370496 + o6 : Int64)) fun v7 =>
  lt (fun (v8 : Int64) =>
  Option.bind (f_X0_part o1.1 o1.2 0) fun o10 =>
  lti (lg_cmp o10 1) fun v11 =>
  (if v11 = 0 then
    ltl (-v8) fun v13 =>
    some v13
  else
    some v8
  )
  ) fun K9 =>
  (if v5 = 0 then
    K9 0
  else
    (if 1072 ≤ v5 then
      lti (v5 - 1072) fun v16 =>
      ltl ((v7 : Int64) <<< ((v16 : Int32).toInt64 &&& 63)) fun v17 =>
      K9 v17
    else
      lti (1072 - v5) fun v18 =>
      ltl ((v7 : Int64) >>> ((v18 : Int32).toInt64 &&& 63)) fun v19 =>
      K9 v19
    )
  )
theorem hd_X0_its : Hd yX0_its 1 := by unfold Hd; decide +kernel
set_option maxHeartbeats 4000000 in
set_option maxRecDepth 100000 in
theorem m_X0_its {l : Launch} {D : DD} (x0 : Nat) (x0r0 : Nat) (x0r0r0 : Nat) (x0r0r1 : Nat) (x0r0r2 : Nat)  (x0r0r0c : Nat → UInt64) (x0r0r1c : Nat → UInt64) (x0r0r2c : Nat → Int32) (x0r0f3 : Int32) (x0r0f4 : Int32) (x0r0f5 : Int32) (x0r0f6 : Int32) (x1 : Int32) (r : Int64) (h : f_X0_its x0r0r0c x0r0r1c x0r0r2c x0r0f3 x0r0f4 x0r0f5 x0r0f6 x1 = some r) : MT l D yX0_its cX0_its 8 (some .long) 7 174 11 260 [.ref x0, .int x1] (fun H => OA D 1 x0 [.ref x0r0] H ∧ ON D 0 x0r0 [.ref x0r0r0, .ref x0r0r1, .ref x0r0r2, .int x0r0f3, .int x0r0f4, .int x0r0f5, .int x0r0f6] H ∧ aD D x0r0r0 8 x0r0r0c H ∧ aD D x0r0r1 8 x0r0r1c H ∧ aZ D x0r0r2 8 x0r0r2c H) (pL (fun H b H' => b = r ∧ Off (fun _ => False) H H')) := by
  refine MT.start (by decide +kernel) (Nat.le_of_ble_eq_true rfl) ?_
  intro p e s m below meth c ls hC hS hp hl
  obtain ⟨h_x0, h_x0r0, h_x0r0r0, h_x0r0r1, h_x0r0r2⟩ := hp
  obtain ⟨hx, hb, hr, hlk, hml, hown, hts, hnm⟩ := id hC
  have hl : lv_has ls 8 [(0, .ref x0), (1, .int x1)] := hl
  unfold f_X0_its at h
  have hS0 := hS
  obtain ⟨A, eA⟩ : ∃ A : Array Value, A = [.ref x0, .int x1].toArray := ⟨_, rfl⟩
  rw [← eA] at hC hts ⊢
  obtain ⟨Q, eQ⟩ : ∃ Q : State → Prop, Q = MQ below (TQ D (pL (fun H b H' => b = r ∧ Off (fun _ => False) H H'))) A s 11 260 (fun q => dB D ≤ q) := ⟨_, rfl⟩
  have hF : Off (fun _ => False) s.heap s.heap := Off.rf
  show W p l e R_X0_its s m A below meth c s.heap [] 0 0 _ _
  rw [← eQ]
  obtain ⟨H, eH⟩ : ∃ H : Heap, H = s.heap := ⟨_, rfl⟩
  obtain ⟨locs, eLc⟩ : ∃ L : List Loc, L = [] := ⟨_, rfl⟩
  have lt_h_x0 := h_x0.lt
  have lt_h_x0r0 := h_x0r0.lt
  have lt_h_x0r0r0 := h_x0r0r0.lt
  have lt_h_x0r0r1 := h_x0r0r1.lt
  have lt_h_x0r0r2 := h_x0r0r2.lt
  rw [← eH, ← eLc]
  have hF : Off (fun _ => False) s.heap H := by rw [eH]; exact hF
  rw [← eH] at h_x0
  rw [← eH] at h_x0r0
  rw [← eH] at h_x0r0r0
  rw [← eH] at h_x0r0r1
  rw [← eH] at h_x0r0r2
  have hS : St D s H locs := by rw [eH, eLc]; exact hS
  refine lv_aload_n hx hb dX0_its_0 rfl (lv_at hl 0 rfl) ?_
  refine r_get hx hb hts hown hS h_x0 rfl in_X0 0 (by decide) q936 rfl (v := .ref x0r0) rfl dX0_its_1 ?_
  refine lv_iload_n hx hb dX0_its_4 rfl (lv_at hl 1 rfl) ?_
  obtain ⟨o1, eo1, h⟩ := bind_step h
  refine r_cr (r_runV (rest := []) (As := [.int x1]) hC 1 (m_X1_angleText x0r0 x0r0r0 x0r0r1 x0r0r2  x0r0r0c x0r0r1c x0r0r2c x0r0f3 x0r0f4 x0r0f5 x0r0f6 x1 o1 eo1) q948 q949 q950 q46 q951 (OA.recv hS h_x0r0.OA (C := RX1) rfl) hd_X1_angleText rfl ⟨Nat.le_of_ble_eq_true rfl, Nat.le_of_ble_eq_true rfl⟩ hS ⟨h_x0r0, h_x0r0r0, h_x0r0r1, h_x0r0r2⟩ hl.1 rfl (Nat.le_of_ble_eq_true rfl) dX0_its_5 ⟨Nat.le_of_ble_eq_true rfl, Nat.le_of_ble_eq_true rfl⟩) hS (fun ad2 H locs hp hS hz => ?_)
  obtain ⟨ad3, had2, had3, lo1_1, frad3, frad2, ne_ad2_ad3, hO⟩ := hp
  have ne_h_x0_had2 : x0 ≠ ad2 := Nat.ne_of_lt (Nat.lt_of_lt_of_le h_x0.lt frad2)
  have ne_h_x0r0_had2 : x0r0 ≠ ad2 := Nat.ne_of_lt (Nat.lt_of_lt_of_le h_x0r0.lt frad2)
  have ne_h_x0r0r0_had2 : x0r0r0 ≠ ad2 := Nat.ne_of_lt (Nat.lt_of_lt_of_le h_x0r0r0.lt frad2)
  have ne_h_x0r0r1_had2 : x0r0r1 ≠ ad2 := Nat.ne_of_lt (Nat.lt_of_lt_of_le h_x0r0r1.lt frad2)
  have ne_h_x0r0r2_had2 : x0r0r2 ≠ ad2 := Nat.ne_of_lt (Nat.lt_of_lt_of_le h_x0r0r2.lt frad2)
  have gad2 : s.heap.size ≤ ad2 := Nat.le_trans hF.1 frad2
  have hB_had2 : dB D ≤ ad2 := by have := hS0.1.2.2.1; omega
  have ne_h_x0_had3 : x0 ≠ ad3 := Nat.ne_of_lt (Nat.lt_of_lt_of_le h_x0.lt frad3)
  have ne_h_x0r0_had3 : x0r0 ≠ ad3 := Nat.ne_of_lt (Nat.lt_of_lt_of_le h_x0r0.lt frad3)
  have ne_h_x0r0r0_had3 : x0r0r0 ≠ ad3 := Nat.ne_of_lt (Nat.lt_of_lt_of_le h_x0r0r0.lt frad3)
  have ne_h_x0r0r1_had3 : x0r0r1 ≠ ad3 := Nat.ne_of_lt (Nat.lt_of_lt_of_le h_x0r0r1.lt frad3)
  have ne_h_x0r0r2_had3 : x0r0r2 ≠ ad3 := Nat.ne_of_lt (Nat.lt_of_lt_of_le h_x0r0r2.lt frad3)
  have gad3 : s.heap.size ≤ ad3 := Nat.le_trans hF.1 frad3
  have hB_had3 : dB D ≤ ad3 := by have := hS0.1.2.2.1; omega
  have h_x0 := h_x0.ext hO
  have h_x0r0 := h_x0r0.ext hO
  have h_x0r0r0 := h_x0r0r0.ext hO
  have h_x0r0r1 := h_x0r0r1.ext hO
  have h_x0r0r2 := h_x0r0r2.ext hO
  have hF := hF.trans (hO.mono (fun _ _ z => z.elim))
  refine lv_astore_n (lv' := [(2, .ref ad2), (0, .ref x0), (1, .int x1)]) hx hb dX0_its_8 rfl hl (by decide) rfl (fun ls hl => ?_)
  refine lv_aload_n hx hb dX0_its_9 rfl (lv_at hl 0 rfl) ?_
  refine lv_iconst (v := 1) hx hb dX0_its_10 (by decide) ?_
  obtain ⟨o4, eo4, h⟩ := bind_step h
  refine r_cl (r_runS (rest := []) (As := [.ref ad2, .int 1]) hC 2 (m_X0_part ad2 ad3 0 0 o1.1 o1.2 1 o4 eo4) q1033 q1034 q39 q1035 hd_X0_part rfl ⟨Nat.le_of_ble_eq_true rfl, Nat.le_of_ble_eq_true rfl⟩ hS ⟨had2.OA, had3, lo1_1⟩ hl.1 rfl (Nat.le_of_ble_eq_true rfl) dX0_its_11 ⟨Nat.le_of_ble_eq_true rfl, Nat.le_of_ble_eq_true rfl⟩) hS (fun b H locs hp hS hz => ?_)
  obtain ⟨eb_, hO⟩ := hp
  rw [eb_]
  have h_x0 := h_x0.ext hO
  have h_x0r0 := h_x0r0.ext hO
  have h_x0r0r0 := h_x0r0r0.ext hO
  have h_x0r0r1 := h_x0r0r1.ext hO
  have h_x0r0r2 := h_x0r0r2.ext hO
  have had2 := had2.ext hO
  have had3 := had3.ext hO
  have hF := hF.trans (hO.mono (fun _ _ z => z.elim))
  obtain ⟨v5, ev5, h⟩ := lti_step h
  refine r_l2i hx hb ev5 dX0_its_14 ?_
  refine lv_istore_n (lv' := [(3, .int v5), (2, .ref ad2), (0, .ref x0), (1, .int x1)]) hx hb dX0_its_15 rfl hl (by decide) rfl (fun ls hl => ?_)
  refine lv_ldc2 hx hb (v := 4503599627370496) hown (hts _ q1189) dX0_its_16 ?_
  refine lv_aload_n hx hb dX0_its_19 rfl (lv_at hl 1 rfl) ?_
  refine lv_iconst (v := 2) hx hb dX0_its_20 (by decide) ?_
  obtain ⟨o6, eo6, h⟩ := bind_step h
  refine r_cl (r_runS (rest := [.long 4503599627370496]) (As := [.ref ad2, .int 2]) hC 2 (m_X0_part ad2 ad3 0 0 o1.1 o1.2 2 o6 eo6) q1033 q1034 q39 q1035 hd_X0_part rfl ⟨Nat.le_of_ble_eq_true rfl, Nat.le_of_ble_eq_true rfl⟩ hS ⟨had2.OA, had3, lo1_1⟩ hl.1 rfl (Nat.le_of_ble_eq_true rfl) dX0_its_21 ⟨Nat.le_of_ble_eq_true rfl, Nat.le_of_ble_eq_true rfl⟩) hS (fun b H locs hp hS hz => ?_)
  obtain ⟨eb_, hO⟩ := hp
  rw [eb_]
  have h_x0 := h_x0.ext hO
  have h_x0r0 := h_x0r0.ext hO
  have h_x0r0r0 := h_x0r0r0.ext hO
  have h_x0r0r1 := h_x0r0r1.ext hO
  have h_x0r0r2 := h_x0r0r2.ext hO
  have had2 := had2.ext hO
  have had3 := had3.ext hO
  have hF := hF.trans (hO.mono (fun _ _ z => z.elim))
  obtain ⟨v7, ev7, h⟩ := ltl_step h
  refine r_ladd hx hb ev7 dX0_its_24 ?_
  refine lv_lstore (lv' := [(4, .long v7), (3, .int v5), (2, .ref ad2), (0, .ref x0), (1, .int x1)]) hx hb dX0_its_25 hl (by decide) rfl (fun ls hl => ?_)
  refine lv_iload_n hx hb dX0_its_27 rfl (lv_at hl 1 rfl) ?_
  obtain ⟨K9, eK9, h⟩ := lt_step h
  have HK9 : ∀ (v8 : Int64) (h : K9 v8 = some r) (H : Heap) (locs : List Loc) (hS : St D s H locs) (hF : Off (fun _ => False) s.heap H) (h_x0 : OA D 1 x0 [.ref x0r0] H) (h_x0r0 : ON D 0 x0r0 [.ref x0r0r0, .ref x0r0r1, .ref x0r0r2, .int x0r0f3, .int x0r0f4, .int x0r0f5, .int x0r0f6] H) (h_x0r0r0 : aD D x0r0r0 8 x0r0r0c H) (h_x0r0r1 : aD D x0r0r1 8 x0r0r1c H) (h_x0r0r2 : aZ D x0r0r2 8 x0r0r2c H) (had2 : ON D 3 ad2 [.ref ad3, .int 0, .int 0, .int 0] H) (had3 : aB D ad3 o1.1 o1.2 H) (ls : Array Slot) (hl : lv_has ls 8 [(2, .ref ad2)]), W p l e R_X0_its s m A below meth c H locs 9 216 Q (F0 m 61 ls [.long v8]) := by
    intro v8 h H locs hS hF h_x0 h_x0r0 h_x0r0r0 h_x0r0r1 h_x0r0r2 had2 had3 ls hl
    subst eK9
    refine lv_lstore (lv' := [(6, .long v8), (2, .ref ad2)]) hx hb dX0_its_61 hl (by decide) rfl (fun ls hl => ?_)
    refine lv_aload_n hx hb dX0_its_63 rfl (lv_at hl 1 rfl) ?_
    refine lv_iconst (v := 0) hx hb dX0_its_64 (by decide) ?_
    obtain ⟨o10, eo10, h⟩ := bind_step h
    refine r_cl (r_runS (rest := []) (As := [.ref ad2, .int 0]) hC 2 (m_X0_part ad2 ad3 0 0 o1.1 o1.2 0 o10 eo10) q1033 q1034 q39 q1035 hd_X0_part rfl ⟨Nat.le_of_ble_eq_true rfl, Nat.le_of_ble_eq_true rfl⟩ hS ⟨had2.OA, had3, lo1_1⟩ hl.1 rfl (Nat.le_of_ble_eq_true rfl) dX0_its_65 ⟨Nat.le_of_ble_eq_true rfl, Nat.le_of_ble_eq_true rfl⟩) hS (fun b H locs hp hS hz => ?_)
    obtain ⟨eb_, hO⟩ := hp
    rw [eb_]
    have h_x0 := h_x0.ext hO
    have h_x0r0 := h_x0r0.ext hO
    have h_x0r0r0 := h_x0r0r0.ext hO
    have h_x0r0r1 := h_x0r0r1.ext hO
    have h_x0r0r2 := h_x0r0r2.ext hO
    have had2 := had2.ext hO
    have had3 := had3.ext hO
    have hF := hF.trans (hO.mono (fun _ _ z => z.elim))
    refine lv_lconst (v := 1) hx hb dX0_its_68 rfl ?_
    obtain ⟨v11, ev11, h⟩ := lti_step h
    refine r_lcmp hx hb ev11 dX0_its_69 ?_
    refine lv_if_ne (tgt := 79) hx hb dX0_its_70 (by decide) (fun c12 => ?_) (fun c12 => ?_)
    · have h := it_neg h c12
      refine lv_lload hx hb dX0_its_79 (lv_at hl 0 rfl) ?_
      obtain rfl := Option.some.inj h
      rw [eQ]
      exact r_lret hx hb hr hlk hS (Nat.le_of_ble_eq_true rfl) (Nat.le_of_ble_eq_true rfl) dX0_its_81 ⟨_, rfl, rfl, hF⟩
    · have h := it_pos h c12
      refine lv_lload hx hb dX0_its_73 (lv_at hl 0 rfl) ?_
      obtain ⟨v13, ev13, h⟩ := ltl_step h
      refine r_lneg hx hb ev13 dX0_its_75 ?_
      refine lv_goto (tgt := 81) hx hb dX0_its_76 (by decide) ?_
      obtain rfl := Option.some.inj h
      rw [eQ]
      exact r_lret hx hb hr hlk hS (Nat.le_of_ble_eq_true rfl) (Nat.le_of_ble_eq_true rfl) dX0_its_81 ⟨_, rfl, rfl, hF⟩
  clear eK9
  refine lv_if_ne (tgt := 35) hx hb dX0_its_28 (by decide) (fun c14 => ?_) (fun c14 => ?_)
  · have h := it_neg h c14
    refine lv_iload_n hx hb dX0_its_35 rfl (lv_at hl 1 rfl) ?_
    refine lv_sipush (v := 1072) hx hb dX0_its_36 (by decide) ?_
    refine lv_icmp_ge (tgt := 53) hx hb dX0_its_39 (by decide) (fun c15 => ?_) (fun c15 => ?_)
    · have h := it_pos h c15
      refine lv_lload hx hb dX0_its_53 (lv_at hl 0 rfl) ?_
      refine lv_iload_n hx hb dX0_its_55 rfl (lv_at hl 1 rfl) ?_
      refine lv_sipush (v := 1072) hx hb dX0_its_56 (by decide) ?_
      obtain ⟨v16, ev16, h⟩ := lti_step h
      refine r_isub hx hb ev16 dX0_its_59 ?_
      obtain ⟨v17, ev17, h⟩ := ltl_step h
      refine r_lshl hx hb ev17 dX0_its_60 ?_
      exact HK9 v17 h H locs hS hF h_x0 h_x0r0 h_x0r0r0 h_x0r0r1 h_x0r0r2 had2 had3 ls (lv_sub hl [2] rfl)
    · have h := it_neg h c15
      refine lv_lload hx hb dX0_its_42 (lv_at hl 0 rfl) ?_
      refine lv_sipush (v := 1072) hx hb dX0_its_44 (by decide) ?_
      refine lv_iload_n hx hb dX0_its_47 rfl (lv_at hl 1 rfl) ?_
      obtain ⟨v18, ev18, h⟩ := lti_step h
      refine r_isub hx hb ev18 dX0_its_48 ?_
      obtain ⟨v19, ev19, h⟩ := ltl_step h
      refine r_lshr hx hb ev19 dX0_its_49 ?_
      refine lv_goto (tgt := 61) hx hb dX0_its_50 (by decide) ?_
      exact HK9 v19 h H locs hS hF h_x0 h_x0r0 h_x0r0r0 h_x0r0r1 h_x0r0r2 had2 had3 ls (lv_sub hl [2] rfl)
  · have h := it_pos h c14
    refine lv_lconst (v := 0) hx hb dX0_its_31 rfl ?_
    refine lv_goto (tgt := 61) hx hb dX0_its_32 (by decide) ?_
    exact HK9 0 h H locs hS hF h_x0 h_x0r0 h_x0r0r0 h_x0r0r1 h_x0r0r2 had2 had3 ls (lv_sub hl [2] rfl)

abbrev R_X0_areKnown : Room := { frames := 14, cells := 15183, slots := 155916, locals := 1541 }
noncomputable def f_X0_areKnown (x0r0r0c : Nat → UInt64) (x0r0r1c : Nat → UInt64) (x0r0r2c : Nat → Int32) (x0r0f3 : Int32) (x0r0f4 : Int32) (x0r0f5 : Int32) (x0r0f6 : Int32) : Option (Bool × Int32 × Int32 × Int32 × (Nat → UInt64) × (Nat → UInt64) × (Nat → Int32)) :=
  lt (fun (f1 : Nat → UInt64) (f2 : Nat → UInt64) (f3 : Nat → Int32) (v4 : Int32) (v5 : Int32) (v6 : Int32) (v7 : Bool) (v8 : Int32) =>
  (show Option (Sum ((Nat → UInt64) × (Nat → UInt64) × (Nat → Int32) × Int32 × Int32 × Int32 × Bool × Int32) ((Nat → UInt64) × (Nat → UInt64) × (Nat → Int32) × Int32 × Int32 × Int32 × Bool)) from (
  (if 8 ≤ v8 then
    some (.inr (f1, f2, f3, v4, v5, v6, v7))
  else
    lt (fun (f45 : Nat → UInt64) (f46 : Nat → UInt64) (f47 : Nat → Int32) (v48 : Int32) (v49 : Int32) (v50 : Int32) (v51 : Bool) =>
    lti (v8 + 1) fun v53 =>
    some (.inl (f45, f46, f47, v48, v49, v50, v51, v53))
    ) fun K52 =>
    lt (fun (f54 : Nat → UInt64) (f55 : Nat → UInt64) (f56 : Nat → Int32) (v57 : Int32) (v58 : Int32) (v59 : Int32) =>
    K52 f54 f55 f56 v57 v58 v59 false
    ) fun K60 =>
    (if v7 = true then
      Option.bind (f_X0_comes f1 f2 f3 v4 v5 v6 x0r0f6 v8) fun o62 =>
      (if o62.1 = true then
        Option.bind (f_X0_its o62.2.2.2.1 f2 o62.2.2.2.2 o62.2.1 v5 o62.2.2.1 x0r0f6 6) fun o64 =>
        gd 8 v8 fun i65 =>
        ltl (tb_EIGHTHS i65) fun v66 =>
        lti (lg_cmp o64 v66) fun v67 =>
        (if v67 = 0 then
          Option.bind (f_X0_answer o62.2.2.2.1 f2 o62.2.2.2.2 o62.2.1 v5 o62.2.2.1 x0r0f6 0 6 2) fun o69 =>
          gd 8 v8 fun i70 =>
          ltl (tb_SINES i70) fun v71 =>
          lti (lg_cmp o69.1 v71) fun v72 =>
          (if v72 = 0 then
            Option.bind (f_X0_answer o62.2.2.2.1 o69.2.2 o62.2.2.2.2 o62.2.1 o69.2.1 o62.2.2.1 x0r0f6 1 6 3) fun o74 =>
            gd 8 v8 fun i75 =>
            ltl (tb_COSINES i75) fun v76 =>
            lti (lg_cmp o74.1 v76) fun v77 =>
            (if v77 = 0 then
              K52 o62.2.2.2.1 o74.2.2 o62.2.2.2.2 o62.2.1 o74.2.1 o62.2.2.1 true
            else
              K60 o62.2.2.2.1 o74.2.2 o62.2.2.2.2 o62.2.1 o74.2.1 o62.2.2.1
            )
          else
            K60 o62.2.2.2.1 o69.2.2 o62.2.2.2.2 o62.2.1 o69.2.1 o62.2.2.1
          )
        else
          K60 o62.2.2.2.1 f2 o62.2.2.2.2 o62.2.1 v5 o62.2.2.1
        )
      else
        K60 o62.2.2.2.1 f2 o62.2.2.2.2 o62.2.1 v5 o62.2.2.1
      )
    else
      K60 f1 f2 f3 v4 v5 v6
    )
  )
  ))
  ) fun F41 =>
  Option.bind (lp 9 (fun x => F41 x.1 x.2.1 x.2.2.1 x.2.2.2.1 x.2.2.2.2.1 x.2.2.2.2.2.1 x.2.2.2.2.2.2.1 x.2.2.2.2.2.2.2) (x0r0r0c, x0r0r1c, x0r0r2c, x0r0f3, x0r0f4, x0r0f5, true, 2)) fun w42 =>
  lt (fun (f79 : Nat → UInt64) (f80 : Nat → UInt64) (f81 : Nat → Int32) (v82 : Int32) (v83 : Int32) (v84 : Bool) (v85 : Int32) =>
  (show Option (Sum ((Nat → UInt64) × (Nat → UInt64) × (Nat → Int32) × Int32 × Int32 × Bool × Int32) ((Nat → UInt64) × (Nat → UInt64) × (Nat → Int32) × Int32 × Int32 × Bool)) from (
  (if v84 = true then
    (if 8 ≤ v85 then
      some (.inr (f79, f80, f81, v82, v83, v84))
    else
      Option.bind (f_X1_angleKnown f79 f80 f81 v82 v83 w42.2.2.2.2.2.1 x0r0f6 5 v85) fun o133 =>
      lt (fun (f134 : Nat → UInt64) (f135 : Nat → UInt64) (f136 : Nat → Int32) (v137 : Int32) (v138 : Int32) (v139 : Bool) =>
      lti (v85 + 1) fun v141 =>
      some (.inl (f134, f135, f136, v137, v138, v139, v141))
      ) fun K140 =>
      lt (fun (f142 : Nat → UInt64) (f143 : Nat → UInt64) (f144 : Nat → Int32) (v145 : Int32) (v146 : Int32) =>
      K140 f142 f143 f144 v145 v146 false
      ) fun K147 =>
      (if o133.1 < 0 then
        K147 o133.2.2.1 f80 o133.2.2.2 o133.2.1 v83
      else
        Option.bind (f_X1_angleKnown o133.2.2.1 f80 o133.2.2.2 o133.2.1 v83 w42.2.2.2.2.2.1 x0r0f6 5 v85) fun o149 =>
        (if o149.1 = 0 then
          Option.bind (f_X0_its o149.2.2.1 f80 o149.2.2.2 o149.2.1 v83 w42.2.2.2.2.2.1 x0r0f6 5) fun o151 =>
          gd 8 v85 fun i152 =>
          ltl (tb_EIGHTHS i152) fun v153 =>
          lti (lg_cmp o151 v153) fun v154 =>
          (if v154 = 0 then
            Option.bind (f_X0_answer o149.2.2.1 f80 o149.2.2.2 o149.2.1 v83 w42.2.2.2.2.2.1 x0r0f6 0 5 0) fun o156 =>
            gd 8 v85 fun i157 =>
            ltl (tb_SINES i157) fun v158 =>
            lti (lg_cmp o156.1 v158) fun v159 =>
            (if v159 = 0 then
              Option.bind (f_X0_answer o149.2.2.1 o156.2.2 o149.2.2.2 o149.2.1 o156.2.1 w42.2.2.2.2.2.1 x0r0f6 1 5 1) fun o161 =>
              gd 8 v85 fun i162 =>
              ltl (tb_COSINES i162) fun v163 =>
              lti (lg_cmp o161.1 v163) fun v164 =>
              (if v164 = 0 then
                Option.bind (f_X1_angleText o149.2.2.1 o161.2.2 o149.2.2.2 o149.2.1 o161.2.1 w42.2.2.2.2.2.1 x0r0f6 5) fun o166 =>
                Option.bind (f_J5_charAt o166.1 o166.2 0) fun o169 =>
                lt (fun (v170 : Int32) =>
                (if o169 = v170 then
                  K140 o149.2.2.1 o161.2.2 o149.2.2.2 o149.2.1 o161.2.1 true
                else
                  K147 o149.2.2.1 o161.2.2 o149.2.2.2 o149.2.1 o161.2.1
                )
                ) fun K171 =>
                (if v85 = 1 then
                  K171 49
                else
                  K171 48
                )
              else
                K147 o149.2.2.1 o161.2.2 o149.2.2.2 o149.2.1 o161.2.1
              )
            else
              K147 o149.2.2.1 o156.2.2 o149.2.2.2 o149.2.1 o156.2.1
            )
          else
            K147 o149.2.2.1 f80 o149.2.2.2 o149.2.1 v83
          )
        else
          K147 o149.2.2.1 f80 o149.2.2.2 o149.2.1 v83
        )
      )
    )
  else
    some (.inr (f79, f80, f81, v82, v83, v84))
  )
  ))
  ) fun F128 =>
  Option.bind (lp 9 (fun x => F128 x.1 x.2.1 x.2.2.1 x.2.2.2.1 x.2.2.2.2.1 x.2.2.2.2.2.1 x.2.2.2.2.2.2) (w42.1, w42.2.1, w42.2.2.1, w42.2.2.2.1, w42.2.2.2.2.1, w42.2.2.2.2.2.2, 0)) fun w129 =>
  some (w129.2.2.2.2.2, w129.2.2.2.1, w129.2.2.2.2.1, w42.2.2.2.2.2.1, w129.1, w129.2.1, w129.2.2.1)
theorem hd_X0_areKnown : Hd yX0_areKnown 0 := by unfold Hd; decide +kernel
set_option maxHeartbeats 4000000 in
set_option maxRecDepth 100000 in
theorem m_X0_areKnown {l : Launch} {D : DD} (x0 : Nat) (x0r0 : Nat) (x0r0r0 : Nat) (x0r0r1 : Nat) (x0r0r2 : Nat)  (x0r0r0c : Nat → UInt64) (x0r0r1c : Nat → UInt64) (x0r0r2c : Nat → Int32) (x0r0f3 : Int32) (x0r0f4 : Int32) (x0r0f5 : Int32) (x0r0f6 : Int32) (r : Bool × Int32 × Int32 × Int32 × (Nat → UInt64) × (Nat → UInt64) × (Nat → Int32)) (h : f_X0_areKnown x0r0r0c x0r0r1c x0r0r2c x0r0f3 x0r0f4 x0r0f5 x0r0f6 = some r) : MT l D yX0_areKnown cX0_areKnown 3 (some .boolean) 14 1541 15183 155916 [.ref x0] (fun H => OA D 1 x0 [.ref x0r0] H ∧ ON D 0 x0r0 [.ref x0r0r0, .ref x0r0r1, .ref x0r0r2, .int x0r0f3, .int x0r0f4, .int x0r0f5, .int x0r0f6] H ∧ dB D ≤ x0r0 ∧ aD D x0r0r0 8 x0r0r0c H ∧ dB D ≤ x0r0r0 ∧ aD D x0r0r1 8 x0r0r1c H ∧ dB D ≤ x0r0r1 ∧ aZ D x0r0r2 8 x0r0r2c H ∧ dB D ≤ x0r0r2 ∧ x0 ≠ x0r0 ∧ x0 ≠ x0r0r0 ∧ x0 ≠ x0r0r1 ∧ x0 ≠ x0r0r2 ∧ x0r0 ≠ x0r0r0 ∧ x0r0 ≠ x0r0r1 ∧ x0r0 ≠ x0r0r2 ∧ x0r0r0 ≠ x0r0r1 ∧ x0r0r0 ≠ x0r0r2 ∧ x0r0r1 ≠ x0r0r2) (pZ (fun H b H' => b = r.1 ∧ ON D 0 x0r0 [.ref x0r0r0, .ref x0r0r1, .ref x0r0r2, .int r.2.1, .int r.2.2.1, .int r.2.2.2.1, .int x0r0f6] H' ∧ aD D x0r0r0 8 r.2.2.2.2.1 H' ∧ aD D x0r0r1 8 r.2.2.2.2.2.1 H' ∧ aZ D x0r0r2 8 r.2.2.2.2.2.2 H' ∧ Off (fun a => a = x0r0 ∨ a = x0r0r0 ∨ a = x0r0r1 ∨ a = x0r0r2) H H')) := by
  refine MT.start (by decide +kernel) (Nat.le_of_ble_eq_true rfl) ?_
  intro p e s m below meth c ls hC hS hp hl
  obtain ⟨h_x0, h_x0r0, hB_h_x0r0, h_x0r0r0, hB_h_x0r0r0, h_x0r0r1, hB_h_x0r0r1, h_x0r0r2, hB_h_x0r0r2, ne_x0_x0r0, ne_x0_x0r0r0, ne_x0_x0r0r1, ne_x0_x0r0r2, ne_x0r0_x0r0r0, ne_x0r0_x0r0r1, ne_x0r0_x0r0r2, ne_x0r0r0_x0r0r1, ne_x0r0r0_x0r0r2, ne_x0r0r1_x0r0r2⟩ := hp
  obtain ⟨hx, hb, hr, hlk, hml, hown, hts, hnm⟩ := id hC
  have hl : lv_has ls 3 [(0, .ref x0)] := hl
  unfold f_X0_areKnown at h
  have hS0 := hS
  obtain ⟨A, eA⟩ : ∃ A : Array Value, A = [.ref x0].toArray := ⟨_, rfl⟩
  rw [← eA] at hC hts ⊢
  obtain ⟨Q, eQ⟩ : ∃ Q : State → Prop, Q = MQ below (TQ D (pZ (fun H b H' => b = r.1 ∧ ON D 0 x0r0 [.ref x0r0r0, .ref x0r0r1, .ref x0r0r2, .int r.2.1, .int r.2.2.1, .int r.2.2.2.1, .int x0r0f6] H' ∧ aD D x0r0r0 8 r.2.2.2.2.1 H' ∧ aD D x0r0r1 8 r.2.2.2.2.2.1 H' ∧ aZ D x0r0r2 8 r.2.2.2.2.2.2 H' ∧ Off (fun a => a = x0r0 ∨ a = x0r0r0 ∨ a = x0r0r1 ∨ a = x0r0r2) H H'))) A s 15183 155916 (fun q => dB D ≤ q) := ⟨_, rfl⟩
  have hF : Off (fun a => a = x0r0 ∨ a = x0r0r0 ∨ a = x0r0r1 ∨ a = x0r0r2) s.heap s.heap := Off.rf
  show W p l e R_X0_areKnown s m A below meth c s.heap [] 0 0 _ _
  rw [← eQ]
  obtain ⟨H, eH⟩ : ∃ H : Heap, H = s.heap := ⟨_, rfl⟩
  obtain ⟨locs, eLc⟩ : ∃ L : List Loc, L = [] := ⟨_, rfl⟩
  have lt_h_x0 := h_x0.lt
  have lt_h_x0r0 := h_x0r0.lt
  have lt_h_x0r0r0 := h_x0r0r0.lt
  have lt_h_x0r0r1 := h_x0r0r1.lt
  have lt_h_x0r0r2 := h_x0r0r2.lt
  rw [← eH, ← eLc]
  have hF : Off (fun a => a = x0r0 ∨ a = x0r0r0 ∨ a = x0r0r1 ∨ a = x0r0r2) s.heap H := by rw [eH]; exact hF
  rw [← eH] at h_x0
  rw [← eH] at h_x0r0
  rw [← eH] at h_x0r0r0
  rw [← eH] at h_x0r0r1
  rw [← eH] at h_x0r0r2
  have hS : St D s H locs := by rw [eH, eLc]; exact hS
  refine lv_iconst (v := 1) hx hb dX0_areKnown_0 (by decide) ?_
  refine lv_istore_n (lv' := [(1, .int 1), (0, .ref x0)]) hx hb dX0_areKnown_1 rfl hl (by decide) rfl (fun ls hl => ?_)
  refine lv_iconst (v := 2) hx hb dX0_areKnown_2 (by decide) ?_
  refine lv_istore_n (lv' := [(2, .int 2), (1, .int 1), (0, .ref x0)]) hx hb dX0_areKnown_3 rfl hl (by decide) rfl (fun ls hl => ?_)
  obtain ⟨F41, eF41, h⟩ := lt_step h
  obtain ⟨w42, ew42, h⟩ := bind_step h
  obtain ⟨CE, eCE⟩ : ∃ x : Nat, x = 0 + 7569 := ⟨_, rfl⟩
  obtain ⟨SE, eSE⟩ : ∃ x : Nat, x = 0 + 77382 := ⟨_, rfl⟩
  have hCE : CE ≤ R_X0_areKnown.cells := (by rw [eCE]; exact Nat.le_of_ble_eq_true rfl)
  have hSE : SE ≤ R_X0_areKnown.slots := (by rw [eSE]; exact Nat.le_of_ble_eq_true rfl)
  have HL : ∀ (n : Nat) (f1 : Nat → UInt64) (f2 : Nat → UInt64) (f3 : Nat → Int32) (v4 : Int32) (v5 : Int32) (v6 : Int32) (v7 : Bool) (v8 : Int32) (w42 : (Nat → UInt64) × (Nat → UInt64) × (Nat → Int32) × Int32 × Int32 × Int32 × Bool) (hk0 : lp n (fun x => F41 x.1 x.2.1 x.2.2.1 x.2.2.2.1 x.2.2.2.2.1 x.2.2.2.2.2.1 x.2.2.2.2.2.2.1 x.2.2.2.2.2.2.2) (f1, f2, f3, v4, v5, v6, v7, v8) = some w42) (cl : Nat) (sl : Nat) (hcl : cl + 841 * n ≤ CE) (hsl : sl + 8598 * n ≤ SE) (H : Heap) (locs : List Loc) (hS : St D s H locs) (hF : Off (fun a => a = x0r0 ∨ a = x0r0r0 ∨ a = x0r0r1 ∨ a = x0r0r2) s.heap H) (h_x0 : OA D 1 x0 [.ref x0r0] H) (h_x0r0 : ON D 0 x0r0 [.ref x0r0r0, .ref x0r0r1, .ref x0r0r2, .int v4, .int v5, .int v6, .int x0r0f6] H) (h_x0r0r0 : aD D x0r0r0 8 f1 H) (h_x0r0r1 : aD D x0r0r1 8 f2 H) (h_x0r0r2 : aZ D x0r0r2 8 f3 H) (ls : Array Slot) (hl : lv_has ls 3 [(0, .ref x0), (1, .int (bI v7)), (2, .int v8)]) (K83 : ∀ (H : Heap) (locs : List Loc) (hS : St D s H locs) (hF : Off (fun a => a = x0r0 ∨ a = x0r0r0 ∨ a = x0r0r1 ∨ a = x0r0r2) s.heap H) (h_x0 : OA D 1 x0 [.ref x0r0] H) (h_x0r0 : ON D 0 x0r0 [.ref x0r0r0, .ref x0r0r1, .ref x0r0r2, .int w42.2.2.2.1, .int w42.2.2.2.2.1, .int w42.2.2.2.2.2.1, .int x0r0f6] H) (h_x0r0r0 : aD D x0r0r0 8 w42.1 H) (h_x0r0r1 : aD D x0r0r1 8 w42.2.1 H) (h_x0r0r2 : aZ D x0r0r2 8 w42.2.2.1 H) (ls : Array Slot) (hl : lv_has ls 3 [(0, .ref x0), (1, .int (bI w42.2.2.2.2.2.2))]), W p l e R_X0_areKnown s m A below meth c H locs CE SE Q (F0 m 83 ls [])), W p l e R_X0_areKnown s m A below meth c H locs cl sl Q (F0 m 4 ls []) := by
    intro n
    induction n with
    | zero => intro f1 f2 f3 v4 v5 v6 v7 v8 w42 hk0 cl sl hcl hsl H locs hS hF h_x0 h_x0r0 h_x0r0r0 h_x0r0r1 h_x0r0r2 ls hl K83; exact lp_zero hk0
    | succ n ih =>
      intro f1 f2 f3 v4 v5 v6 v7 v8 w42 hk0 cl sl hcl hsl H locs hS hF h_x0 h_x0r0 h_x0r0r0 h_x0r0r1 h_x0r0r2 ls hl K83
      obtain ⟨z43, hz, hk⟩ := lp_step hk0
      have h := (congrFun (congrFun (congrFun (congrFun (congrFun (congrFun (congrFun (congrFun (eF41) f1) f2) f3) v4) v5) v6) v7) v8).symm.trans hz
      have hcO : cl + 841 ≤ CE := al_out hcl
      have hcE : cl + 841 ≤ R_X0_areKnown.cells := Nat.le_trans hcO hCE
      have hcN : ∀ a, a ≤ 841 → cl + a + 841 * n ≤ CE := fun a ha => al_next hcl ha
      have hcN0 : cl + 841 * n ≤ CE := al_next hcl (Nat.zero_le _)
      have hsO : sl + 8598 ≤ SE := al_out hsl
      have hsE : sl + 8598 ≤ R_X0_areKnown.slots := Nat.le_trans hsO hSE
      have hsN : ∀ a, a ≤ 8598 → sl + a + 8598 * n ≤ SE := fun a ha => al_next hsl ha
      have hsN0 : sl + 8598 * n ≤ SE := al_next hsl (Nat.zero_le _)
      clear hcl hsl
      refine lv_iload_n hx hb dX0_areKnown_4 rfl (lv_at hl 2 rfl) ?_
      refine lv_bipush (v := 8) hx hb dX0_areKnown_5 (by decide) ?_
      refine lv_icmp_ge (tgt := 83) hx hb dX0_areKnown_7 (by decide) (fun c44 => ?_) (fun c44 => ?_)
      · have h := it_pos h c44
        obtain rfl := Option.some.inj h
        obtain rfl := id hk
        refine W.widen (k := CE) (n := SE) (by omega) (by omega) ?_
        exact K83 H locs hS hF h_x0 h_x0r0 h_x0r0r0 h_x0r0r1 h_x0r0r2 ls (lv_sub hl [0, 1] rfl)
      · have h := it_neg h c44
        refine lv_iload_n hx hb dX0_areKnown_10 rfl (lv_at hl 1 rfl) ?_
        obtain ⟨K52, eK52, h⟩ := lt_step h
        have HK52 : ∀ (f45 : Nat → UInt64) (f46 : Nat → UInt64) (f47 : Nat → Int32) (v48 : Int32) (v49 : Int32) (v50 : Int32) (v51 : Bool) (h : K52 f45 f46 f47 v48 v49 v50 v51 = some z43) (H : Heap) (locs : List Loc) (hS : St D s H locs) (hF : Off (fun a => a = x0r0 ∨ a = x0r0r0 ∨ a = x0r0r1 ∨ a = x0r0r2) s.heap H) (h_x0 : OA D 1 x0 [.ref x0r0] H) (h_x0r0 : ON D 0 x0r0 [.ref x0r0r0, .ref x0r0r1, .ref x0r0r2, .int v48, .int v49, .int v50, .int x0r0f6] H) (h_x0r0r0 : aD D x0r0r0 8 f45 H) (h_x0r0r1 : aD D x0r0r1 8 f46 H) (h_x0r0r2 : aZ D x0r0r2 8 f47 H) (ls : Array Slot) (hl : lv_has ls 3 [(0, .ref x0), (2, .int v8)]), W p l e R_X0_areKnown s m A below meth c H locs (cl + 841) (sl + 8598) Q (F0 m 76 ls [.int (bI v51)]) := by
          intro f45 f46 f47 v48 v49 v50 v51 h H locs hS hF h_x0 h_x0r0 h_x0r0r0 h_x0r0r1 h_x0r0r2 ls hl
          subst eK52
          refine lv_istore_n (lv' := [(1, .int (bI v51)), (0, .ref x0), (2, .int v8)]) hx hb dX0_areKnown_76 rfl hl (by decide) rfl (fun ls hl => ?_)
          obtain ⟨v53, ev53, h⟩ := lti_step h
          refine lv_iinc (v := v53) (lv' := [(2, .int v53), (1, .int (bI v51)), (0, .ref x0)]) hx hb dX0_areKnown_77 hl (k := 2) rfl (by rw [ev53]; rfl) (by decide) rfl (fun ls hl => ?_)
          refine lv_goto (tgt := 4) hx hb dX0_areKnown_80 (by decide) ?_
          obtain rfl := Option.some.inj h
          exact ih f45 f46 f47 v48 v49 v50 v51 v53 w42 hk _ _ (hcN 841 (Nat.le_of_ble_eq_true rfl)) (hsN 8598 (Nat.le_of_ble_eq_true rfl)) H locs hS hF h_x0 h_x0r0 h_x0r0r0 h_x0r0r1 h_x0r0r2 ls (lv_sub hl [2, 1, 0] rfl) K83
        clear eK52
        obtain ⟨K60, eK60, h⟩ := lt_step h
        have HK60 : ∀ (f54 : Nat → UInt64) (f55 : Nat → UInt64) (f56 : Nat → Int32) (v57 : Int32) (v58 : Int32) (v59 : Int32) (h : K60 f54 f55 f56 v57 v58 v59 = some z43) (H : Heap) (locs : List Loc) (hS : St D s H locs) (hF : Off (fun a => a = x0r0 ∨ a = x0r0r0 ∨ a = x0r0r1 ∨ a = x0r0r2) s.heap H) (h_x0 : OA D 1 x0 [.ref x0r0] H) (h_x0r0 : ON D 0 x0r0 [.ref x0r0r0, .ref x0r0r1, .ref x0r0r2, .int v57, .int v58, .int v59, .int x0r0f6] H) (h_x0r0r0 : aD D x0r0r0 8 f54 H) (h_x0r0r1 : aD D x0r0r1 8 f55 H) (h_x0r0r2 : aZ D x0r0r2 8 f56 H) (ls : Array Slot) (hl : lv_has ls 3 [(0, .ref x0), (2, .int v8)]), W p l e R_X0_areKnown s m A below meth c H locs (cl + 841) (sl + 8598) Q (F0 m 75 ls []) := by
          intro f54 f55 f56 v57 v58 v59 h H locs hS hF h_x0 h_x0r0 h_x0r0r0 h_x0r0r1 h_x0r0r2 ls hl
          subst eK60
          refine lv_iconst (v := 0) hx hb dX0_areKnown_75 (by decide) ?_
          exact HK52 f54 f55 f56 v57 v58 v59 false h H locs hS hF h_x0 h_x0r0 h_x0r0r0 h_x0r0r1 h_x0r0r2 ls (lv_sub hl [0, 1] rfl)
        clear eK60
        refine r_ifz_eq (tgt := 75) hx hb dX0_areKnown_11 (by decide) (fun c61 => ?_) (fun c61 => ?_)
        · have h := it_neg h (by rw [c61]; decide)
          refine W.widen (k := cl + 841) (n := sl + 8598) (by omega) (by omega) ?_
          exact HK60 f1 f2 f3 v4 v5 v6 h H locs hS hF h_x0 h_x0r0 h_x0r0r0 h_x0r0r1 h_x0r0r2 ls (lv_sub hl [0, 2] rfl)
        · have h := it_pos h (by rw [c61])
          refine lv_aload_n hx hb dX0_areKnown_14 rfl (lv_at hl 0 rfl) ?_
          refine lv_iload_n hx hb dX0_areKnown_15 rfl (lv_at hl 2 rfl) ?_
          obtain ⟨o62, eo62, h⟩ := bind_step h
          refine r_cz (r_runV (rest := []) (As := [.int v8]) hC 1 (m_X0_comes x0 x0r0 x0r0r0 x0r0r1 x0r0r2  f1 f2 f3 v4 v5 v6 x0r0f6 v8 o62 eo62) q1405 q1407 qs26 q39 q1408 (OA.recv hS h_x0 (C := RX0) rfl) hd_X0_comes rfl ⟨Nat.le_of_ble_eq_true rfl, Nat.le_of_ble_eq_true rfl⟩ hS ⟨h_x0, h_x0r0, hB_h_x0r0, h_x0r0r0, hB_h_x0r0r0, h_x0r0r1, h_x0r0r2, hB_h_x0r0r2, ne_x0_x0r0, ne_x0_x0r0r0, ne_x0_x0r0r2, ne_x0r0_x0r0r0, ne_x0r0_x0r0r1, ne_x0r0_x0r0r2, ne_x0r0r0_x0r0r1, ne_x0r0r0_x0r0r2, ne_x0r0r1_x0r0r2⟩ hl.1 rfl (Nat.le_of_ble_eq_true rfl) dX0_areKnown_16 ⟨by have := hcE; have := hsE; omega, by have := hcE; have := hsE; omega⟩) hS (fun b H locs hp hS hz => ?_)
          obtain ⟨rfl, h_x0r0, h_x0r0r0, h_x0r0r2, hO⟩ := hp
          have h_x0 := h_x0.off hO (fun z => by rcases z with z | z | z <;> first | exact ne_x0_x0r0 z | exact ne_x0_x0r0r0 z | exact ne_x0_x0r0r2 z)
          have h_x0r0r1 := h_x0r0r1.off hO (fun z => by rcases z with z | z | z <;> first | exact (Ne.symm ne_x0r0_x0r0r1) z | exact (Ne.symm ne_x0r0r0_x0r0r1) z | exact ne_x0r0r1_x0r0r2 z)
          have hF := hF.fresh hO (fun a ha z => by
            rcases z with z | z | z
            · exact Or.inl z
            · exact Or.inr (Or.inl z)
            · exact Or.inr (Or.inr (Or.inr (z))))
          refine r_ifz_eq (tgt := 75) hx hb dX0_areKnown_19 (by decide) (fun c63 => ?_) (fun c63 => ?_)
          · have h := it_neg h (by rw [c63]; decide)
            refine W.widen (k := cl + 841) (n := sl + 8598) (by omega) (by omega) ?_
            exact HK60 o62.2.2.2.1 f2 o62.2.2.2.2 o62.2.1 v5 o62.2.2.1 h H locs hS hF h_x0 h_x0r0 h_x0r0r0 h_x0r0r1 h_x0r0r2 ls (lv_sub hl [0, 2] rfl)
          · have h := it_pos h (by rw [c63])
            refine lv_aload_n hx hb dX0_areKnown_22 rfl (lv_at hl 0 rfl) ?_
            refine lv_bipush (v := 6) hx hb dX0_areKnown_23 (by decide) ?_
            obtain ⟨o64, eo64, h⟩ := bind_step h
            refine r_cl (r_runV (rest := []) (As := [.int 6]) hC 1 (m_X0_its x0 x0r0 x0r0r0 x0r0r1 x0r0r2  o62.2.2.2.1 f2 o62.2.2.2.2 o62.2.1 v5 o62.2.2.1 x0r0f6 6 o64 eo64) q944 q946 qs10 q39 q947 (OA.recv hS h_x0 (C := RX0) rfl) hd_X0_its rfl ⟨Nat.le_of_ble_eq_true rfl, Nat.le_of_ble_eq_true rfl⟩ hS ⟨h_x0, h_x0r0, h_x0r0r0, h_x0r0r1, h_x0r0r2⟩ hl.1 rfl (Nat.le_of_ble_eq_true rfl) dX0_areKnown_25 ⟨by have := hcE; have := hsE; omega, by have := hcE; have := hsE; omega⟩) hS (fun b H locs hp hS hz => ?_)
            obtain ⟨eb_, hO⟩ := hp
            rw [eb_]
            have h_x0 := h_x0.ext hO
            have h_x0r0 := h_x0r0.ext hO
            have h_x0r0r0 := h_x0r0r0.ext hO
            have h_x0r0r1 := h_x0r0r1.ext hO
            have h_x0r0r2 := h_x0r0r2.ext hO
            have hF := hF.trans (hO.mono (fun _ _ z => z.elim))
            refine r_gets hx hb hts hown hS 0 rfl q1409 dX0_areKnown_28 ?_
            refine lv_iload_n hx hb dX0_areKnown_31 rfl (lv_at hl 2 rfl) ?_
            obtain ⟨i65, xi65, h⟩ := gd_step (by decide) h
            refine r_lald hx hb hS (hS.1.RA hS.1.1.2.2.2.1.1) i65 xi65 dX0_areKnown_32 ?_
            obtain ⟨v66, ev66, h⟩ := ltl_step h
            refine r_nmL ev66 ?_
            obtain ⟨v67, ev67, h⟩ := lti_step h
            refine r_lcmp hx hb ev67 dX0_areKnown_33 ?_
            refine lv_if_ne (tgt := 75) hx hb dX0_areKnown_34 (by decide) (fun c68 => ?_) (fun c68 => ?_)
            · have h := it_neg h c68
              refine W.widen (k := cl + 841) (n := sl + 8598) (by omega) (by omega) ?_
              exact HK60 o62.2.2.2.1 f2 o62.2.2.2.2 o62.2.1 v5 o62.2.2.1 h H locs hS hF h_x0 h_x0r0 h_x0r0r0 h_x0r0r1 h_x0r0r2 ls (lv_sub hl [0, 2] rfl)
            · have h := it_pos h c68
              refine lv_aload_n hx hb dX0_areKnown_37 rfl (lv_at hl 0 rfl) ?_
              refine lv_iconst (v := 0) hx hb dX0_areKnown_38 (by decide) ?_
              refine lv_bipush (v := 6) hx hb dX0_areKnown_39 (by decide) ?_
              refine lv_iconst (v := 2) hx hb dX0_areKnown_41 (by decide) ?_
              obtain ⟨o69, eo69, h⟩ := bind_step h
              refine r_cl (r_runV (rest := []) (As := [.int 0, .int 6, .int 2]) hC 3 (m_X0_answer x0 x0r0 x0r0r0 x0r0r1 x0r0r2  o62.2.2.2.1 f2 o62.2.2.2.2 o62.2.1 v5 o62.2.2.1 x0r0f6 0 6 2 o69 eo69) q1415 q1417 qs27 q39 q1418 (OA.recv hS h_x0 (C := RX0) rfl) hd_X0_answer rfl ⟨Nat.le_of_ble_eq_true rfl, Nat.le_of_ble_eq_true rfl⟩ hS ⟨h_x0, h_x0r0, hB_h_x0r0, h_x0r0r0, h_x0r0r1, hB_h_x0r0r1, h_x0r0r2, ne_x0_x0r0, ne_x0_x0r0r1, ne_x0r0_x0r0r0, ne_x0r0_x0r0r1, ne_x0r0_x0r0r2, ne_x0r0r0_x0r0r1, ne_x0r0r1_x0r0r2⟩ hl.1 rfl (Nat.le_of_ble_eq_true rfl) dX0_areKnown_42 ⟨by have := hcE; have := hsE; omega, by have := hcE; have := hsE; omega⟩) hS (fun b H locs hp hS hz => ?_)
              obtain ⟨rfl, h_x0r0, h_x0r0r1, hO⟩ := hp
              have h_x0 := h_x0.off hO (fun z => by rcases z with z | z <;> first | exact ne_x0_x0r0 z | exact ne_x0_x0r0r1 z)
              have h_x0r0r0 := h_x0r0r0.off hO (fun z => by rcases z with z | z <;> first | exact (Ne.symm ne_x0r0_x0r0r0) z | exact ne_x0r0r0_x0r0r1 z)
              have h_x0r0r2 := h_x0r0r2.off hO (fun z => by rcases z with z | z <;> first | exact (Ne.symm ne_x0r0_x0r0r2) z | exact (Ne.symm ne_x0r0r1_x0r0r2) z)
              have hF := hF.fresh hO (fun a ha z => by
                rcases z with z | z
                · exact Or.inl z
                · exact Or.inr (Or.inr (Or.inl z)))
              refine r_gets hx hb hts hown hS 1 rfl q1467 dX0_areKnown_45 ?_
              refine lv_iload_n hx hb dX0_areKnown_48 rfl (lv_at hl 2 rfl) ?_
              obtain ⟨i70, xi70, h⟩ := gd_step (by decide) h
              refine r_lald hx hb hS (hS.1.RA hS.1.1.2.2.2.1.2.1) i70 xi70 dX0_areKnown_49 ?_
              obtain ⟨v71, ev71, h⟩ := ltl_step h
              refine r_nmL ev71 ?_
              obtain ⟨v72, ev72, h⟩ := lti_step h
              refine r_lcmp hx hb ev72 dX0_areKnown_50 ?_
              refine lv_if_ne (tgt := 75) hx hb dX0_areKnown_51 (by decide) (fun c73 => ?_) (fun c73 => ?_)
              · have h := it_neg h c73
                refine W.widen (k := cl + 841) (n := sl + 8598) (by omega) (by omega) ?_
                exact HK60 o62.2.2.2.1 o69.2.2 o62.2.2.2.2 o62.2.1 o69.2.1 o62.2.2.1 h H locs hS hF h_x0 h_x0r0 h_x0r0r0 h_x0r0r1 h_x0r0r2 ls (lv_sub hl [0, 2] rfl)
              · have h := it_pos h c73
                refine lv_aload_n hx hb dX0_areKnown_54 rfl (lv_at hl 0 rfl) ?_
                refine lv_iconst (v := 1) hx hb dX0_areKnown_55 (by decide) ?_
                refine lv_bipush (v := 6) hx hb dX0_areKnown_56 (by decide) ?_
                refine lv_iconst (v := 3) hx hb dX0_areKnown_58 (by decide) ?_
                obtain ⟨o74, eo74, h⟩ := bind_step h
                refine r_cl (r_runV (rest := []) (As := [.int 1, .int 6, .int 3]) hC 3 (m_X0_answer x0 x0r0 x0r0r0 x0r0r1 x0r0r2  o62.2.2.2.1 o69.2.2 o62.2.2.2.2 o62.2.1 o69.2.1 o62.2.2.1 x0r0f6 1 6 3 o74 eo74) q1415 q1417 qs27 q39 q1418 (OA.recv hS h_x0 (C := RX0) rfl) hd_X0_answer rfl ⟨Nat.le_of_ble_eq_true rfl, Nat.le_of_ble_eq_true rfl⟩ hS ⟨h_x0, h_x0r0, hB_h_x0r0, h_x0r0r0, h_x0r0r1, hB_h_x0r0r1, h_x0r0r2, ne_x0_x0r0, ne_x0_x0r0r1, ne_x0r0_x0r0r0, ne_x0r0_x0r0r1, ne_x0r0_x0r0r2, ne_x0r0r0_x0r0r1, ne_x0r0r1_x0r0r2⟩ hl.1 rfl (Nat.le_of_ble_eq_true rfl) dX0_areKnown_59 ⟨by have := hcE; have := hsE; omega, by have := hcE; have := hsE; omega⟩) hS (fun b H locs hp hS hz => ?_)
                obtain ⟨rfl, h_x0r0, h_x0r0r1, hO⟩ := hp
                have h_x0 := h_x0.off hO (fun z => by rcases z with z | z <;> first | exact ne_x0_x0r0 z | exact ne_x0_x0r0r1 z)
                have h_x0r0r0 := h_x0r0r0.off hO (fun z => by rcases z with z | z <;> first | exact (Ne.symm ne_x0r0_x0r0r0) z | exact ne_x0r0r0_x0r0r1 z)
                have h_x0r0r2 := h_x0r0r2.off hO (fun z => by rcases z with z | z <;> first | exact (Ne.symm ne_x0r0_x0r0r2) z | exact (Ne.symm ne_x0r0r1_x0r0r2) z)
                have hF := hF.fresh hO (fun a ha z => by
                  rcases z with z | z
                  · exact Or.inl z
                  · exact Or.inr (Or.inr (Or.inl z)))
                refine r_gets hx hb hts hown hS 2 rfl q1469 dX0_areKnown_62 ?_
                refine lv_iload_n hx hb dX0_areKnown_65 rfl (lv_at hl 2 rfl) ?_
                obtain ⟨i75, xi75, h⟩ := gd_step (by decide) h
                refine r_lald hx hb hS (hS.1.RA hS.1.1.2.2.2.1.2.2.1) i75 xi75 dX0_areKnown_66 ?_
                obtain ⟨v76, ev76, h⟩ := ltl_step h
                refine r_nmL ev76 ?_
                obtain ⟨v77, ev77, h⟩ := lti_step h
                refine r_lcmp hx hb ev77 dX0_areKnown_67 ?_
                refine lv_if_ne (tgt := 75) hx hb dX0_areKnown_68 (by decide) (fun c78 => ?_) (fun c78 => ?_)
                · have h := it_neg h c78
                  exact HK60 o62.2.2.2.1 o74.2.2 o62.2.2.2.2 o62.2.1 o74.2.1 o62.2.2.1 h H locs hS hF h_x0 h_x0r0 h_x0r0r0 h_x0r0r1 h_x0r0r2 ls (lv_sub hl [0, 2] rfl)
                · have h := it_pos h c78
                  refine lv_iconst (v := 1) hx hb dX0_areKnown_71 (by decide) ?_
                  refine lv_goto (tgt := 76) hx hb dX0_areKnown_72 (by decide) ?_
                  exact HK52 o62.2.2.2.1 o74.2.2 o62.2.2.2.2 o62.2.1 o74.2.1 o62.2.2.1 true h H locs hS hF h_x0 h_x0r0 h_x0r0r0 h_x0r0r1 h_x0r0r2 ls (lv_sub hl [0, 2] rfl)
  clear eF41
  refine HL 9 x0r0r0c x0r0r1c x0r0r2c x0r0f3 x0r0f4 x0r0f5 true 2 w42 ew42 _ _ (Nat.le_of_eq eCE.symm) (Nat.le_of_eq eSE.symm) H locs hS hF h_x0 h_x0r0 h_x0r0r0 h_x0r0r1 h_x0r0r2 ls (lv_sub hl [2, 1, 0] rfl) (fun  H locs hS hF h_x0 h_x0r0 h_x0r0r0 h_x0r0r1 h_x0r0r2 ls hl => ?_)
  rw [eCE, eSE]
  refine lv_iconst (v := 0) hx hb dX0_areKnown_83 (by decide) ?_
  refine lv_istore_n (lv' := [(2, .int 0), (0, .ref x0), (1, .int (bI w42.2.2.2.2.2.2))]) hx hb dX0_areKnown_84 rfl hl (by decide) rfl (fun ls hl => ?_)
  obtain ⟨F128, eF128, h⟩ := lt_step h
  obtain ⟨w129, ew129, h⟩ := bind_step h
  obtain ⟨CE, eCE⟩ : ∃ x : Nat, x = 7569 + 7614 := ⟨_, rfl⟩
  obtain ⟨SE, eSE⟩ : ∃ x : Nat, x = 77382 + 78534 := ⟨_, rfl⟩
  have hCE : CE ≤ R_X0_areKnown.cells := (by rw [eCE]; exact Nat.le_of_ble_eq_true rfl)
  have hSE : SE ≤ R_X0_areKnown.slots := (by rw [eSE]; exact Nat.le_of_ble_eq_true rfl)
  have HL : ∀ (n : Nat) (f79 : Nat → UInt64) (f80 : Nat → UInt64) (f81 : Nat → Int32) (v82 : Int32) (v83 : Int32) (v84 : Bool) (v85 : Int32) (w129 : (Nat → UInt64) × (Nat → UInt64) × (Nat → Int32) × Int32 × Int32 × Bool) (hk0 : lp n (fun x => F128 x.1 x.2.1 x.2.2.1 x.2.2.2.1 x.2.2.2.2.1 x.2.2.2.2.2.1 x.2.2.2.2.2.2) (f79, f80, f81, v82, v83, v84, v85) = some w129) (cl : Nat) (sl : Nat) (hcl : cl + 846 * n ≤ CE) (hsl : sl + 8726 * n ≤ SE) (H : Heap) (locs : List Loc) (hS : St D s H locs) (hF : Off (fun a => a = x0r0 ∨ a = x0r0r0 ∨ a = x0r0r1 ∨ a = x0r0r2) s.heap H) (h_x0 : OA D 1 x0 [.ref x0r0] H) (h_x0r0 : ON D 0 x0r0 [.ref x0r0r0, .ref x0r0r1, .ref x0r0r2, .int v82, .int v83, .int w42.2.2.2.2.2.1, .int x0r0f6] H) (h_x0r0r0 : aD D x0r0r0 8 f79 H) (h_x0r0r1 : aD D x0r0r1 8 f80 H) (h_x0r0r2 : aZ D x0r0r2 8 f81 H) (ls : Array Slot) (hl : lv_has ls 3 [(0, .ref x0), (1, .int (bI v84)), (2, .int v85)]) (K204 : ∀ (H : Heap) (locs : List Loc) (hS : St D s H locs) (hF : Off (fun a => a = x0r0 ∨ a = x0r0r0 ∨ a = x0r0r1 ∨ a = x0r0r2) s.heap H) (h_x0 : OA D 1 x0 [.ref x0r0] H) (h_x0r0 : ON D 0 x0r0 [.ref x0r0r0, .ref x0r0r1, .ref x0r0r2, .int w129.2.2.2.1, .int w129.2.2.2.2.1, .int w42.2.2.2.2.2.1, .int x0r0f6] H) (h_x0r0r0 : aD D x0r0r0 8 w129.1 H) (h_x0r0r1 : aD D x0r0r1 8 w129.2.1 H) (h_x0r0r2 : aZ D x0r0r2 8 w129.2.2.1 H) (ls : Array Slot) (hl : lv_has ls 3 [(1, .int (bI w129.2.2.2.2.2))]), W p l e R_X0_areKnown s m A below meth c H locs CE SE Q (F0 m 204 ls [])), W p l e R_X0_areKnown s m A below meth c H locs cl sl Q (F0 m 85 ls []) := by
    intro n
    induction n with
    | zero => intro f79 f80 f81 v82 v83 v84 v85 w129 hk0 cl sl hcl hsl H locs hS hF h_x0 h_x0r0 h_x0r0r0 h_x0r0r1 h_x0r0r2 ls hl K204; exact lp_zero hk0
    | succ n ih =>
      intro f79 f80 f81 v82 v83 v84 v85 w129 hk0 cl sl hcl hsl H locs hS hF h_x0 h_x0r0 h_x0r0r0 h_x0r0r1 h_x0r0r2 ls hl K204
      obtain ⟨z130, hz, hk⟩ := lp_step hk0
      have h := (congrFun (congrFun (congrFun (congrFun (congrFun (congrFun (congrFun (eF128) f79) f80) f81) v82) v83) v84) v85).symm.trans hz
      have hcO : cl + 846 ≤ CE := al_out hcl
      have hcE : cl + 846 ≤ R_X0_areKnown.cells := Nat.le_trans hcO hCE
      have hcN : ∀ a, a ≤ 846 → cl + a + 846 * n ≤ CE := fun a ha => al_next hcl ha
      have hcN0 : cl + 846 * n ≤ CE := al_next hcl (Nat.zero_le _)
      have hsO : sl + 8726 ≤ SE := al_out hsl
      have hsE : sl + 8726 ≤ R_X0_areKnown.slots := Nat.le_trans hsO hSE
      have hsN : ∀ a, a ≤ 8726 → sl + a + 8726 * n ≤ SE := fun a ha => al_next hsl ha
      have hsN0 : sl + 8726 * n ≤ SE := al_next hsl (Nat.zero_le _)
      clear hcl hsl
      refine lv_iload_n hx hb dX0_areKnown_85 rfl (lv_at hl 1 rfl) ?_
      refine r_ifz_eq (tgt := 204) hx hb dX0_areKnown_86 (by decide) (fun c131 => ?_) (fun c131 => ?_)
      · have h := it_neg h (by rw [c131]; decide)
        obtain rfl := Option.some.inj h
        obtain rfl := id hk
        refine W.widen (k := CE) (n := SE) (by omega) (by omega) ?_
        exact K204 H locs hS hF h_x0 h_x0r0 h_x0r0r0 h_x0r0r1 h_x0r0r2 ls (lv_sub hl [1] rfl)
      · have h := it_pos h (by rw [c131])
        refine lv_iload_n hx hb dX0_areKnown_89 rfl (lv_at hl 2 rfl) ?_
        refine lv_bipush (v := 8) hx hb dX0_areKnown_90 (by decide) ?_
        refine lv_icmp_ge (tgt := 204) hx hb dX0_areKnown_92 (by decide) (fun c132 => ?_) (fun c132 => ?_)
        · have h := it_pos h c132
          obtain rfl := Option.some.inj h
          obtain rfl := id hk
          refine W.widen (k := CE) (n := SE) (by omega) (by omega) ?_
          exact K204 H locs hS hF h_x0 h_x0r0 h_x0r0r0 h_x0r0r1 h_x0r0r2 ls (lv_sub hl [1] rfl)
        · have h := it_neg h c132
          refine lv_aload_n hx hb dX0_areKnown_95 rfl (lv_at hl 0 rfl) ?_
          refine r_get hx hb hts hown hS h_x0 rfl in_X0 0 (by decide) q936 rfl (v := .ref x0r0) rfl dX0_areKnown_96 ?_
          refine lv_iconst (v := 5) hx hb dX0_areKnown_99 (by decide) ?_
          refine lv_iload_n hx hb dX0_areKnown_100 rfl (lv_at hl 2 rfl) ?_
          obtain ⟨o133, eo133, h⟩ := bind_step h
          refine r_ci (r_runV (rest := []) (As := [.int 5, .int v85]) hC 2 (m_X1_angleKnown x0r0 x0r0r0 x0r0r1 x0r0r2  f79 f80 f81 v82 v83 w42.2.2.2.2.2.1 x0r0f6 5 v85 o133 eo133) q1471 q1472 q1473 q46 q1474 (OA.recv hS h_x0r0.OA (C := RX1) rfl) hd_X1_angleKnown rfl ⟨Nat.le_of_ble_eq_true rfl, Nat.le_of_ble_eq_true rfl⟩ hS ⟨h_x0r0, hB_h_x0r0, h_x0r0r0, hB_h_x0r0r0, h_x0r0r1, h_x0r0r2, hB_h_x0r0r2, ne_x0r0_x0r0r0, ne_x0r0_x0r0r1, ne_x0r0_x0r0r2, ne_x0r0r0_x0r0r1, ne_x0r0r0_x0r0r2, ne_x0r0r1_x0r0r2⟩ hl.1 rfl (Nat.le_of_ble_eq_true rfl) dX0_areKnown_101 ⟨by have := hcE; have := hsE; omega, by have := hcE; have := hsE; omega⟩) hS (fun b H locs hp hS hz => ?_)
          obtain ⟨rfl, h_x0r0, h_x0r0r0, h_x0r0r2, hO⟩ := hp
          have h_x0 := h_x0.off hO (fun z => by rcases z with z | z | z <;> first | exact ne_x0_x0r0 z | exact ne_x0_x0r0r0 z | exact ne_x0_x0r0r2 z)
          have h_x0r0r1 := h_x0r0r1.off hO (fun z => by rcases z with z | z | z <;> first | exact (Ne.symm ne_x0r0_x0r0r1) z | exact (Ne.symm ne_x0r0r0_x0r0r1) z | exact ne_x0r0r1_x0r0r2 z)
          have hF := hF.fresh hO (fun a ha z => by
            rcases z with z | z | z
            · exact Or.inl z
            · exact Or.inr (Or.inl z)
            · exact Or.inr (Or.inr (Or.inr (z))))
          obtain ⟨K140, eK140, h⟩ := lt_step h
          have HK140 : ∀ (f134 : Nat → UInt64) (f135 : Nat → UInt64) (f136 : Nat → Int32) (v137 : Int32) (v138 : Int32) (v139 : Bool) (h : K140 f134 f135 f136 v137 v138 v139 = some z130) (H : Heap) (locs : List Loc) (hS : St D s H locs) (hF : Off (fun a => a = x0r0 ∨ a = x0r0r0 ∨ a = x0r0r1 ∨ a = x0r0r2) s.heap H) (h_x0 : OA D 1 x0 [.ref x0r0] H) (h_x0r0 : ON D 0 x0r0 [.ref x0r0r0, .ref x0r0r1, .ref x0r0r2, .int v137, .int v138, .int w42.2.2.2.2.2.1, .int x0r0f6] H) (h_x0r0r0 : aD D x0r0r0 8 f134 H) (h_x0r0r1 : aD D x0r0r1 8 f135 H) (h_x0r0r2 : aZ D x0r0r2 8 f136 H) (ls : Array Slot) (hl : lv_has ls 3 [(0, .ref x0), (2, .int v85)]), W p l e R_X0_areKnown s m A below meth c H locs (cl + 846) (sl + 8726) Q (F0 m 197 ls [.int (bI v139)]) := by
            intro f134 f135 f136 v137 v138 v139 h H locs hS hF h_x0 h_x0r0 h_x0r0r0 h_x0r0r1 h_x0r0r2 ls hl
            subst eK140
            refine lv_istore_n (lv' := [(1, .int (bI v139)), (0, .ref x0), (2, .int v85)]) hx hb dX0_areKnown_197 rfl hl (by decide) rfl (fun ls hl => ?_)
            obtain ⟨v141, ev141, h⟩ := lti_step h
            refine lv_iinc (v := v141) (lv' := [(2, .int v141), (1, .int (bI v139)), (0, .ref x0)]) hx hb dX0_areKnown_198 hl (k := 2) rfl (by rw [ev141]; rfl) (by decide) rfl (fun ls hl => ?_)
            refine lv_goto (tgt := 85) hx hb dX0_areKnown_201 (by decide) ?_
            obtain rfl := Option.some.inj h
            exact ih f134 f135 f136 v137 v138 v139 v141 w129 hk _ _ (hcN 846 (Nat.le_of_ble_eq_true rfl)) (hsN 8726 (Nat.le_of_ble_eq_true rfl)) H locs hS hF h_x0 h_x0r0 h_x0r0r0 h_x0r0r1 h_x0r0r2 ls (lv_sub hl [2, 1, 0] rfl) K204
          clear eK140
          obtain ⟨K147, eK147, h⟩ := lt_step h
          have HK147 : ∀ (f142 : Nat → UInt64) (f143 : Nat → UInt64) (f144 : Nat → Int32) (v145 : Int32) (v146 : Int32) (h : K147 f142 f143 f144 v145 v146 = some z130) (H : Heap) (locs : List Loc) (hS : St D s H locs) (hF : Off (fun a => a = x0r0 ∨ a = x0r0r0 ∨ a = x0r0r1 ∨ a = x0r0r2) s.heap H) (h_x0 : OA D 1 x0 [.ref x0r0] H) (h_x0r0 : ON D 0 x0r0 [.ref x0r0r0, .ref x0r0r1, .ref x0r0r2, .int v145, .int v146, .int w42.2.2.2.2.2.1, .int x0r0f6] H) (h_x0r0r0 : aD D x0r0r0 8 f142 H) (h_x0r0r1 : aD D x0r0r1 8 f143 H) (h_x0r0r2 : aZ D x0r0r2 8 f144 H) (ls : Array Slot) (hl : lv_has ls 3 [(0, .ref x0), (2, .int v85)]), W p l e R_X0_areKnown s m A below meth c H locs (cl + 846) (sl + 8726) Q (F0 m 196 ls []) := by
            intro f142 f143 f144 v145 v146 h H locs hS hF h_x0 h_x0r0 h_x0r0r0 h_x0r0r1 h_x0r0r2 ls hl
            subst eK147
            refine lv_iconst (v := 0) hx hb dX0_areKnown_196 (by decide) ?_
            exact HK140 f142 f143 f144 v145 v146 false h H locs hS hF h_x0 h_x0r0 h_x0r0r0 h_x0r0r1 h_x0r0r2 ls (lv_sub hl [0, 1] rfl)
          clear eK147
          refine lv_if_lt (tgt := 196) hx hb dX0_areKnown_104 (by decide) (fun c148 => ?_) (fun c148 => ?_)
          · have h := it_pos h c148
            refine W.widen (k := cl + 846) (n := sl + 8726) (by omega) (by omega) ?_
            exact HK147 o133.2.2.1 f80 o133.2.2.2 o133.2.1 v83 h H locs hS hF h_x0 h_x0r0 h_x0r0r0 h_x0r0r1 h_x0r0r2 ls (lv_sub hl [0, 2] rfl)
          · have h := it_neg h c148
            refine lv_aload_n hx hb dX0_areKnown_107 rfl (lv_at hl 0 rfl) ?_
            refine r_get hx hb hts hown hS h_x0 rfl in_X0 0 (by decide) q936 rfl (v := .ref x0r0) rfl dX0_areKnown_108 ?_
            refine lv_iconst (v := 5) hx hb dX0_areKnown_111 (by decide) ?_
            refine lv_iload_n hx hb dX0_areKnown_112 rfl (lv_at hl 2 rfl) ?_
            obtain ⟨o149, eo149, h⟩ := bind_step h
            refine r_ci (r_runV (rest := []) (As := [.int 5, .int v85]) hC 2 (m_X1_angleKnown x0r0 x0r0r0 x0r0r1 x0r0r2  o133.2.2.1 f80 o133.2.2.2 o133.2.1 v83 w42.2.2.2.2.2.1 x0r0f6 5 v85 o149 eo149) q1471 q1472 q1473 q46 q1474 (OA.recv hS h_x0r0.OA (C := RX1) rfl) hd_X1_angleKnown rfl ⟨Nat.le_of_ble_eq_true rfl, Nat.le_of_ble_eq_true rfl⟩ hS ⟨h_x0r0, hB_h_x0r0, h_x0r0r0, hB_h_x0r0r0, h_x0r0r1, h_x0r0r2, hB_h_x0r0r2, ne_x0r0_x0r0r0, ne_x0r0_x0r0r1, ne_x0r0_x0r0r2, ne_x0r0r0_x0r0r1, ne_x0r0r0_x0r0r2, ne_x0r0r1_x0r0r2⟩ hl.1 rfl (Nat.le_of_ble_eq_true rfl) dX0_areKnown_113 ⟨by have := hcE; have := hsE; omega, by have := hcE; have := hsE; omega⟩) hS (fun b H locs hp hS hz => ?_)
            obtain ⟨rfl, h_x0r0, h_x0r0r0, h_x0r0r2, hO⟩ := hp
            have h_x0 := h_x0.off hO (fun z => by rcases z with z | z | z <;> first | exact ne_x0_x0r0 z | exact ne_x0_x0r0r0 z | exact ne_x0_x0r0r2 z)
            have h_x0r0r1 := h_x0r0r1.off hO (fun z => by rcases z with z | z | z <;> first | exact (Ne.symm ne_x0r0_x0r0r1) z | exact (Ne.symm ne_x0r0r0_x0r0r1) z | exact ne_x0r0r1_x0r0r2 z)
            have hF := hF.fresh hO (fun a ha z => by
              rcases z with z | z | z
              · exact Or.inl z
              · exact Or.inr (Or.inl z)
              · exact Or.inr (Or.inr (Or.inr (z))))
            refine lv_if_ne (tgt := 196) hx hb dX0_areKnown_116 (by decide) (fun c150 => ?_) (fun c150 => ?_)
            · have h := it_neg h c150
              refine W.widen (k := cl + 846) (n := sl + 8726) (by omega) (by omega) ?_
              exact HK147 o149.2.2.1 f80 o149.2.2.2 o149.2.1 v83 h H locs hS hF h_x0 h_x0r0 h_x0r0r0 h_x0r0r1 h_x0r0r2 ls (lv_sub hl [0, 2] rfl)
            · have h := it_pos h c150
              refine lv_aload_n hx hb dX0_areKnown_119 rfl (lv_at hl 0 rfl) ?_
              refine lv_iconst (v := 5) hx hb dX0_areKnown_120 (by decide) ?_
              obtain ⟨o151, eo151, h⟩ := bind_step h
              refine r_cl (r_runV (rest := []) (As := [.int 5]) hC 1 (m_X0_its x0 x0r0 x0r0r0 x0r0r1 x0r0r2  o149.2.2.1 f80 o149.2.2.2 o149.2.1 v83 w42.2.2.2.2.2.1 x0r0f6 5 o151 eo151) q944 q946 qs10 q39 q947 (OA.recv hS h_x0 (C := RX0) rfl) hd_X0_its rfl ⟨Nat.le_of_ble_eq_true rfl, Nat.le_of_ble_eq_true rfl⟩ hS ⟨h_x0, h_x0r0, h_x0r0r0, h_x0r0r1, h_x0r0r2⟩ hl.1 rfl (Nat.le_of_ble_eq_true rfl) dX0_areKnown_121 ⟨by have := hcE; have := hsE; omega, by have := hcE; have := hsE; omega⟩) hS (fun b H locs hp hS hz => ?_)
              obtain ⟨eb_, hO⟩ := hp
              rw [eb_]
              have h_x0 := h_x0.ext hO
              have h_x0r0 := h_x0r0.ext hO
              have h_x0r0r0 := h_x0r0r0.ext hO
              have h_x0r0r1 := h_x0r0r1.ext hO
              have h_x0r0r2 := h_x0r0r2.ext hO
              have hF := hF.trans (hO.mono (fun _ _ z => z.elim))
              refine r_gets hx hb hts hown hS 0 rfl q1409 dX0_areKnown_124 ?_
              refine lv_iload_n hx hb dX0_areKnown_127 rfl (lv_at hl 2 rfl) ?_
              obtain ⟨i152, xi152, h⟩ := gd_step (by decide) h
              refine r_lald hx hb hS (hS.1.RA hS.1.1.2.2.2.1.1) i152 xi152 dX0_areKnown_128 ?_
              obtain ⟨v153, ev153, h⟩ := ltl_step h
              refine r_nmL ev153 ?_
              obtain ⟨v154, ev154, h⟩ := lti_step h
              refine r_lcmp hx hb ev154 dX0_areKnown_129 ?_
              refine lv_if_ne (tgt := 196) hx hb dX0_areKnown_130 (by decide) (fun c155 => ?_) (fun c155 => ?_)
              · have h := it_neg h c155
                refine W.widen (k := cl + 846) (n := sl + 8726) (by omega) (by omega) ?_
                exact HK147 o149.2.2.1 f80 o149.2.2.2 o149.2.1 v83 h H locs hS hF h_x0 h_x0r0 h_x0r0r0 h_x0r0r1 h_x0r0r2 ls (lv_sub hl [0, 2] rfl)
              · have h := it_pos h c155
                refine lv_aload_n hx hb dX0_areKnown_133 rfl (lv_at hl 0 rfl) ?_
                refine lv_iconst (v := 0) hx hb dX0_areKnown_134 (by decide) ?_
                refine lv_iconst (v := 5) hx hb dX0_areKnown_135 (by decide) ?_
                refine lv_iconst (v := 0) hx hb dX0_areKnown_136 (by decide) ?_
                obtain ⟨o156, eo156, h⟩ := bind_step h
                refine r_cl (r_runV (rest := []) (As := [.int 0, .int 5, .int 0]) hC 3 (m_X0_answer x0 x0r0 x0r0r0 x0r0r1 x0r0r2  o149.2.2.1 f80 o149.2.2.2 o149.2.1 v83 w42.2.2.2.2.2.1 x0r0f6 0 5 0 o156 eo156) q1415 q1417 qs27 q39 q1418 (OA.recv hS h_x0 (C := RX0) rfl) hd_X0_answer rfl ⟨Nat.le_of_ble_eq_true rfl, Nat.le_of_ble_eq_true rfl⟩ hS ⟨h_x0, h_x0r0, hB_h_x0r0, h_x0r0r0, h_x0r0r1, hB_h_x0r0r1, h_x0r0r2, ne_x0_x0r0, ne_x0_x0r0r1, ne_x0r0_x0r0r0, ne_x0r0_x0r0r1, ne_x0r0_x0r0r2, ne_x0r0r0_x0r0r1, ne_x0r0r1_x0r0r2⟩ hl.1 rfl (Nat.le_of_ble_eq_true rfl) dX0_areKnown_137 ⟨by have := hcE; have := hsE; omega, by have := hcE; have := hsE; omega⟩) hS (fun b H locs hp hS hz => ?_)
                obtain ⟨rfl, h_x0r0, h_x0r0r1, hO⟩ := hp
                have h_x0 := h_x0.off hO (fun z => by rcases z with z | z <;> first | exact ne_x0_x0r0 z | exact ne_x0_x0r0r1 z)
                have h_x0r0r0 := h_x0r0r0.off hO (fun z => by rcases z with z | z <;> first | exact (Ne.symm ne_x0r0_x0r0r0) z | exact ne_x0r0r0_x0r0r1 z)
                have h_x0r0r2 := h_x0r0r2.off hO (fun z => by rcases z with z | z <;> first | exact (Ne.symm ne_x0r0_x0r0r2) z | exact (Ne.symm ne_x0r0r1_x0r0r2) z)
                have hF := hF.fresh hO (fun a ha z => by
                  rcases z with z | z
                  · exact Or.inl z
                  · exact Or.inr (Or.inr (Or.inl z)))
                refine r_gets hx hb hts hown hS 1 rfl q1467 dX0_areKnown_140 ?_
                refine lv_iload_n hx hb dX0_areKnown_143 rfl (lv_at hl 2 rfl) ?_
                obtain ⟨i157, xi157, h⟩ := gd_step (by decide) h
                refine r_lald hx hb hS (hS.1.RA hS.1.1.2.2.2.1.2.1) i157 xi157 dX0_areKnown_144 ?_
                obtain ⟨v158, ev158, h⟩ := ltl_step h
                refine r_nmL ev158 ?_
                obtain ⟨v159, ev159, h⟩ := lti_step h
                refine r_lcmp hx hb ev159 dX0_areKnown_145 ?_
                refine lv_if_ne (tgt := 196) hx hb dX0_areKnown_146 (by decide) (fun c160 => ?_) (fun c160 => ?_)
                · have h := it_neg h c160
                  refine W.widen (k := cl + 846) (n := sl + 8726) (by omega) (by omega) ?_
                  exact HK147 o149.2.2.1 o156.2.2 o149.2.2.2 o149.2.1 o156.2.1 h H locs hS hF h_x0 h_x0r0 h_x0r0r0 h_x0r0r1 h_x0r0r2 ls (lv_sub hl [0, 2] rfl)
                · have h := it_pos h c160
                  refine lv_aload_n hx hb dX0_areKnown_149 rfl (lv_at hl 0 rfl) ?_
                  refine lv_iconst (v := 1) hx hb dX0_areKnown_150 (by decide) ?_
                  refine lv_iconst (v := 5) hx hb dX0_areKnown_151 (by decide) ?_
                  refine lv_iconst (v := 1) hx hb dX0_areKnown_152 (by decide) ?_
                  obtain ⟨o161, eo161, h⟩ := bind_step h
                  refine r_cl (r_runV (rest := []) (As := [.int 1, .int 5, .int 1]) hC 3 (m_X0_answer x0 x0r0 x0r0r0 x0r0r1 x0r0r2  o149.2.2.1 o156.2.2 o149.2.2.2 o149.2.1 o156.2.1 w42.2.2.2.2.2.1 x0r0f6 1 5 1 o161 eo161) q1415 q1417 qs27 q39 q1418 (OA.recv hS h_x0 (C := RX0) rfl) hd_X0_answer rfl ⟨Nat.le_of_ble_eq_true rfl, Nat.le_of_ble_eq_true rfl⟩ hS ⟨h_x0, h_x0r0, hB_h_x0r0, h_x0r0r0, h_x0r0r1, hB_h_x0r0r1, h_x0r0r2, ne_x0_x0r0, ne_x0_x0r0r1, ne_x0r0_x0r0r0, ne_x0r0_x0r0r1, ne_x0r0_x0r0r2, ne_x0r0r0_x0r0r1, ne_x0r0r1_x0r0r2⟩ hl.1 rfl (Nat.le_of_ble_eq_true rfl) dX0_areKnown_153 ⟨by have := hcE; have := hsE; omega, by have := hcE; have := hsE; omega⟩) hS (fun b H locs hp hS hz => ?_)
                  obtain ⟨rfl, h_x0r0, h_x0r0r1, hO⟩ := hp
                  have h_x0 := h_x0.off hO (fun z => by rcases z with z | z <;> first | exact ne_x0_x0r0 z | exact ne_x0_x0r0r1 z)
                  have h_x0r0r0 := h_x0r0r0.off hO (fun z => by rcases z with z | z <;> first | exact (Ne.symm ne_x0r0_x0r0r0) z | exact ne_x0r0r0_x0r0r1 z)
                  have h_x0r0r2 := h_x0r0r2.off hO (fun z => by rcases z with z | z <;> first | exact (Ne.symm ne_x0r0_x0r0r2) z | exact (Ne.symm ne_x0r0r1_x0r0r2) z)
                  have hF := hF.fresh hO (fun a ha z => by
                    rcases z with z | z
                    · exact Or.inl z
                    · exact Or.inr (Or.inr (Or.inl z)))
                  refine r_gets hx hb hts hown hS 2 rfl q1469 dX0_areKnown_156 ?_
                  refine lv_iload_n hx hb dX0_areKnown_159 rfl (lv_at hl 2 rfl) ?_
                  obtain ⟨i162, xi162, h⟩ := gd_step (by decide) h
                  refine r_lald hx hb hS (hS.1.RA hS.1.1.2.2.2.1.2.2.1) i162 xi162 dX0_areKnown_160 ?_
                  obtain ⟨v163, ev163, h⟩ := ltl_step h
                  refine r_nmL ev163 ?_
                  obtain ⟨v164, ev164, h⟩ := lti_step h
                  refine r_lcmp hx hb ev164 dX0_areKnown_161 ?_
                  refine lv_if_ne (tgt := 196) hx hb dX0_areKnown_162 (by decide) (fun c165 => ?_) (fun c165 => ?_)
                  · have h := it_neg h c165
                    refine W.widen (k := cl + 846) (n := sl + 8726) (by omega) (by omega) ?_
                    exact HK147 o149.2.2.1 o161.2.2 o149.2.2.2 o149.2.1 o161.2.1 h H locs hS hF h_x0 h_x0r0 h_x0r0r0 h_x0r0r1 h_x0r0r2 ls (lv_sub hl [0, 2] rfl)
                  · have h := it_pos h c165
                    refine lv_aload_n hx hb dX0_areKnown_165 rfl (lv_at hl 0 rfl) ?_
                    refine r_get hx hb hts hown hS h_x0 rfl in_X0 0 (by decide) q936 rfl (v := .ref x0r0) rfl dX0_areKnown_166 ?_
                    refine lv_iconst (v := 5) hx hb dX0_areKnown_169 (by decide) ?_
                    obtain ⟨o166, eo166, h⟩ := bind_step h
                    refine r_cr (r_runV (rest := []) (As := [.int 5]) hC 1 (m_X1_angleText x0r0 x0r0r0 x0r0r1 x0r0r2  o149.2.2.1 o161.2.2 o149.2.2.2 o149.2.1 o161.2.1 w42.2.2.2.2.2.1 x0r0f6 5 o166 eo166) q948 q949 q950 q46 q951 (OA.recv hS h_x0r0.OA (C := RX1) rfl) hd_X1_angleText rfl ⟨Nat.le_of_ble_eq_true rfl, Nat.le_of_ble_eq_true rfl⟩ hS ⟨h_x0r0, h_x0r0r0, h_x0r0r1, h_x0r0r2⟩ hl.1 rfl (Nat.le_of_ble_eq_true rfl) dX0_areKnown_170 ⟨by have := hcE; have := hsE; omega, by have := hcE; have := hsE; omega⟩) hS (fun ad167 H locs hp hS hz => ?_)
                    obtain ⟨ad168, had167, had168, lo166_1, frad168, frad167, ne_ad167_ad168, hO⟩ := hp
                    have ne_h_x0_had167 : x0 ≠ ad167 := Nat.ne_of_lt (Nat.lt_of_lt_of_le h_x0.lt frad167)
                    have ne_h_x0r0_had167 : x0r0 ≠ ad167 := Nat.ne_of_lt (Nat.lt_of_lt_of_le h_x0r0.lt frad167)
                    have ne_h_x0r0r0_had167 : x0r0r0 ≠ ad167 := Nat.ne_of_lt (Nat.lt_of_lt_of_le h_x0r0r0.lt frad167)
                    have ne_h_x0r0r1_had167 : x0r0r1 ≠ ad167 := Nat.ne_of_lt (Nat.lt_of_lt_of_le h_x0r0r1.lt frad167)
                    have ne_h_x0r0r2_had167 : x0r0r2 ≠ ad167 := Nat.ne_of_lt (Nat.lt_of_lt_of_le h_x0r0r2.lt frad167)
                    have gad167 : s.heap.size ≤ ad167 := Nat.le_trans hF.1 frad167
                    have hB_had167 : dB D ≤ ad167 := by have := hS0.1.2.2.1; omega
                    have ne_h_x0_had168 : x0 ≠ ad168 := Nat.ne_of_lt (Nat.lt_of_lt_of_le h_x0.lt frad168)
                    have ne_h_x0r0_had168 : x0r0 ≠ ad168 := Nat.ne_of_lt (Nat.lt_of_lt_of_le h_x0r0.lt frad168)
                    have ne_h_x0r0r0_had168 : x0r0r0 ≠ ad168 := Nat.ne_of_lt (Nat.lt_of_lt_of_le h_x0r0r0.lt frad168)
                    have ne_h_x0r0r1_had168 : x0r0r1 ≠ ad168 := Nat.ne_of_lt (Nat.lt_of_lt_of_le h_x0r0r1.lt frad168)
                    have ne_h_x0r0r2_had168 : x0r0r2 ≠ ad168 := Nat.ne_of_lt (Nat.lt_of_lt_of_le h_x0r0r2.lt frad168)
                    have gad168 : s.heap.size ≤ ad168 := Nat.le_trans hF.1 frad168
                    have hB_had168 : dB D ≤ ad168 := by have := hS0.1.2.2.1; omega
                    have h_x0 := h_x0.ext hO
                    have h_x0r0 := h_x0r0.ext hO
                    have h_x0r0r0 := h_x0r0r0.ext hO
                    have h_x0r0r1 := h_x0r0r1.ext hO
                    have h_x0r0r2 := h_x0r0r2.ext hO
                    have hF := hF.trans (hO.mono (fun _ _ z => z.elim))
                    refine lv_iconst (v := 0) hx hb dX0_areKnown_173 (by decide) ?_
                    obtain ⟨o169, eo169, h⟩ := bind_step h
                    refine r_cp (r_runV (rest := []) (As := [.int 0]) hC 1 (m_J5_charAt ad167 ad168 0 0 o166.1 o166.2 0 o169 eo169) q1484 q1145 q1146 q45 q1147 (OA.recv hS had167.OA (C := RJ5) rfl) hd_J5_charAt rfl ⟨Nat.le_of_ble_eq_true rfl, Nat.le_of_ble_eq_true rfl⟩ hS ⟨had167.OA, had168, lo166_1⟩ hl.1 rfl (Nat.le_of_ble_eq_true rfl) dX0_areKnown_174 ⟨by have := hcE; have := hsE; omega, by have := hcE; have := hsE; omega⟩) ?_
                    refine lv_iload_n hx hb dX0_areKnown_177 rfl (lv_at hl 2 rfl) ?_
                    refine lv_iconst (v := 1) hx hb dX0_areKnown_178 (by decide) ?_
                    obtain ⟨K171, eK171, h⟩ := lt_step h
                    have HK171 : ∀ (v170 : Int32) (h : K171 v170 = some z130) (H : Heap) (locs : List Loc) (hS : St D s H locs) (hF : Off (fun a => a = x0r0 ∨ a = x0r0r0 ∨ a = x0r0r1 ∨ a = x0r0r2) s.heap H) (h_x0 : OA D 1 x0 [.ref x0r0] H) (h_x0r0 : ON D 0 x0r0 [.ref x0r0r0, .ref x0r0r1, .ref x0r0r2, .int o149.2.1, .int o161.2.1, .int w42.2.2.2.2.2.1, .int x0r0f6] H) (h_x0r0r0 : aD D x0r0r0 8 o149.2.2.1 H) (h_x0r0r1 : aD D x0r0r1 8 o161.2.2 H) (h_x0r0r2 : aZ D x0r0r2 8 o149.2.2.2 H) (ls : Array Slot) (hl : lv_has ls 3 [(0, .ref x0), (2, .int v85)]), W p l e R_X0_areKnown s m A below meth c H locs (cl + 846) (sl + 8726) Q (F0 m 189 ls [.int v170, .int o169]) := by
                      intro v170 h H locs hS hF h_x0 h_x0r0 h_x0r0r0 h_x0r0r1 h_x0r0r2 ls hl
                      subst eK171
                      refine lv_icmp_ne (tgt := 196) hx hb dX0_areKnown_189 (by decide) (fun c172 => ?_) (fun c172 => ?_)
                      · have h := it_neg h c172
                        exact HK147 o149.2.2.1 o161.2.2 o149.2.2.2 o149.2.1 o161.2.1 h H locs hS hF h_x0 h_x0r0 h_x0r0r0 h_x0r0r1 h_x0r0r2 ls (lv_sub hl [0, 1] rfl)
                      · have h := it_pos h c172
                        refine lv_iconst (v := 1) hx hb dX0_areKnown_192 (by decide) ?_
                        refine lv_goto (tgt := 197) hx hb dX0_areKnown_193 (by decide) ?_
                        exact HK140 o149.2.2.1 o161.2.2 o149.2.2.2 o149.2.1 o161.2.1 true h H locs hS hF h_x0 h_x0r0 h_x0r0r0 h_x0r0r1 h_x0r0r2 ls (lv_sub hl [0, 1] rfl)
                    clear eK171
                    refine lv_icmp_ne (tgt := 187) hx hb dX0_areKnown_179 (by decide) (fun c173 => ?_) (fun c173 => ?_)
                    · have h := it_neg h c173
                      refine lv_bipush (v := 48) hx hb dX0_areKnown_187 (by decide) ?_
                      exact HK171 48 h H locs hS hF h_x0 h_x0r0 h_x0r0r0 h_x0r0r1 h_x0r0r2 ls (lv_sub hl [0, 2] rfl)
                    · have h := it_pos h c173
                      refine lv_bipush (v := 49) hx hb dX0_areKnown_182 (by decide) ?_
                      refine lv_goto (tgt := 189) hx hb dX0_areKnown_184 (by decide) ?_
                      exact HK171 49 h H locs hS hF h_x0 h_x0r0 h_x0r0r0 h_x0r0r1 h_x0r0r2 ls (lv_sub hl [0, 2] rfl)
  clear eF128
  refine HL 9 w42.1 w42.2.1 w42.2.2.1 w42.2.2.2.1 w42.2.2.2.2.1 w42.2.2.2.2.2.2 0 w129 ew129 _ _ (Nat.le_of_eq eCE.symm) (Nat.le_of_eq eSE.symm) H locs hS hF h_x0 h_x0r0 h_x0r0r0 h_x0r0r1 h_x0r0r2 ls (lv_sub hl [1, 2, 0] rfl) (fun  H locs hS hF h_x0 h_x0r0 h_x0r0r0 h_x0r0r1 h_x0r0r2 ls hl => ?_)
  rw [eCE, eSE]
  refine lv_iload_n hx hb dX0_areKnown_204 rfl (lv_at hl 0 rfl) ?_
  obtain rfl := Option.some.inj h
  rw [eQ]
  exact r_zret hx hb hr hlk hS (narB _) (Nat.le_of_ble_eq_true rfl) (Nat.le_of_ble_eq_true rfl) dX0_areKnown_205 ⟨_, rfl, rfl, h_x0r0, h_x0r0r0, h_x0r0r1, h_x0r0r2, hF⟩

abbrev R_X0_puts : Room := { frames := 13, cells := 918, slots := 9810, locals := 1520 }
noncomputable def f_X0_puts (x0r0r0c : Nat → UInt64) (x0r0r1c : Nat → UInt64) (x0r0r2c : Nat → Int32) (x0r0f3 : Int32) (x0r0f4 : Int32) (x0r0f5 : Int32) (x0r0f6 : Int32) (x1 : Int32) (x2 : Int32) : Option (Bool × Int32 × (Nat → UInt64) × (Nat → Int32)) :=
  Option.bind (f_X1_house x0r0r0c x0r0r1c x0r0r2c x0r0f3 x0r0f4 x0r0f5 x0r0f6 0) fun o1 =>
  Option.bind (f_X1_angleKnown x0r0r0c x0r0r1c x0r0r2c x0r0f3 x0r0f4 x0r0f5 x0r0f6 x1 4) fun o2 =>
  lt (fun (v3 : Bool) =>
  lti (x2 &&& 7) fun v5 =>
  lt (fun (f6 : Nat → UInt64) (f7 : Nat → Int32) (v8 : Int32) (v9 : Int64) (v10 : Bool) =>
  Option.bind (f_X1_angleText f6 x0r0r1c f7 v8 x0r0f4 x0r0f5 x0r0f6 x1) fun o12 =>
  Option.bind (f_X0_part o12.1 o12.2 2) fun o15 =>
  lt (fun (v16 : Bool) =>
  Option.bind (f_X1_angleFind f6 x0r0r1c f7 v8 x0r0f4 x0r0f5 x0r0f6 x1 false) fun o18 =>
  Option.bind (f_X1_angleFind f6 x0r0r1c f7 v8 x0r0f4 x0r0f5 x0r0f6 x1 true) fun o19 =>
  lt (fun (v20 : Bool) (v21 : Int32) =>
  (show Option (Sum (Bool × Int32) (Bool)) from (
  (if 8 ≤ v21 then
    some (.inr v20)
  else
    lt (fun (v83 : Bool) =>
    lti (v21 + 1) fun v85 =>
    some (.inl (v83, v85))
    ) fun K84 =>
    lt (fun (_u : Unit) =>
    K84 false
    ) fun K86 =>
    (if v20 = true then
      lt (fun (_u : Unit) =>
      Option.bind (f_X1_angleSame f6 x0r0r1c f7 v8 x0r0f4 x0r0f5 x0r0f6 v21 x1 0) fun o89 =>
      Option.bind (f_X1_angleText f6 x0r0r1c f7 v8 x0r0f4 x0r0f5 x0r0f6 v21) fun o90 =>
      Option.bind (f_J5_equals o90.1 o90.2 o12.1 o12.2) fun o93 =>
      (if (bI o89) = (bI o93) then
        K84 true
      else
        K86 ()
      )
      ) fun K88 =>
      lt (fun (_u : Unit) =>
      lti (v21 - v21 / 3 * 3) fun v96 =>
      Option.bind (f_X1_angleSame f6 x0r0r1c f7 v8 x0r0f4 x0r0f5 x0r0f6 v21 x1 v96) fun o97 =>
      (if o97 = true then
        K88 ()
      else
        K86 ()
      )
      ) fun K95 =>
      (if v21 = o18 then
        K95 ()
      else
        (if v21 = o19 then
          K95 ()
        else
          lt (fun (_u : Unit) =>
          lti (v21 - v21 / 3 * 3) fun v102 =>
          Option.bind (f_X1_angleSame f6 x0r0r1c f7 v8 x0r0f4 x0r0f5 x0r0f6 v21 x1 v102) fun o103 =>
          (if o103 = true then
            K86 ()
          else
            K88 ()
          )
          ) fun K101 =>
          (if v21 ≤ o18 then
            K101 ()
          else
            (if v21 < o19 then
              K88 ()
            else
              K101 ()
            )
          )
        )
      )
    else
      K86 ()
    )
  )
  ))
  ) fun F79 =>
  Option.bind (lp 9 (fun x => F79 x.1 x.2) (v16, 0)) fun w80 =>
  some (w80, v8, f6, f7)
  ) fun K17 =>
  lt (fun (_u : Unit) =>
  K17 false
  ) fun K107 =>
  (if v10 = true then
    Option.bind (f_X0_its f6 x0r0r1c f7 v8 x0r0f4 x0r0f5 x0r0f6 x1) fun o109 =>
    lti (lg_cmp o109 v9) fun v110 =>
    (if v110 = 0 then
      Option.bind (f_X1_house f6 x0r0r1c f7 v8 x0r0f4 x0r0f5 x0r0f6 0) fun o112 =>
      lti (o1 + 3) fun v113 =>
      (if o112 = v113 then
        Option.bind (f_X1_angleUpper f6 x0r0r1c f7 v8 x0r0f4 x0r0f5 x0r0f6 x1) fun o115 =>
        Option.bind (f_X0_part o12.1 o12.2 0) fun o116 =>
        lti (o116.toInt32) fun v117 =>
        lti (v117 <<< (31 &&& 31)) fun v118 =>
        Option.bind (f_X0_part o12.1 o12.2 1) fun o119 =>
        lti (o119.toInt32) fun v120 =>
        lti (v120 <<< (20 &&& 31)) fun v121 =>
        lti (v118 ||| v121) fun v122 =>
        ltl ((o15 : Int64) >>> ((32 : Int32).toInt64 &&& 63)) fun v123 =>
        lti (v123.toInt32) fun v124 =>
        lti (v122 ||| v124) fun v125 =>
        (if o115 = v125 then
          ltl ((o15 &&& 4294967295 : Int64)) fun v127 =>
          lti (lg_cmp v127 0) fun v128 =>
          (if v128 = 0 then
            K17 true
          else
            K107 ()
          )
        else
          K107 ()
        )
      else
        K107 ()
      )
    else
      K107 ()
    )
  else
    K107 ()
  )
  ) fun K11 =>
  (if v5 = 0 then
    lti (x2 >>> (4 &&& 31)) fun v169 =>
    Option.bind (f_X0_some v169 32) fun o170 =>
    lti (33 + o170) fun v171 =>
    lti (x2 >>> (10 &&& 31)) fun v172 =>
    Option.bind (f_X0_some v172 37) fun o173 =>
    lti (8 + o173) fun v174 =>
    lti (x2 &&& 8) fun v175 =>
    lt (fun (v176 : Bool) =>
    ltl (v171.toInt64) fun v178 =>
    lti (v174 + 3) fun v179 =>
    ltl ((v178 : Int64) <<< ((v179 : Int32).toInt64 &&& 63)) fun v180 =>
    lt (fun (v181 : Int32) =>
    ltl (v181.toInt64) fun v183 =>
    ltl ((v180 * v183 : Int64)) fun v184 =>
    lt (fun (f185 : Nat → UInt64) (f186 : Nat → Int32) (v187 : Int32) (v188 : Bool) =>
    K11 f185 f186 v187 v184 v188
    ) fun K189 =>
    lt (fun (f190 : Nat → UInt64) (f191 : Nat → Int32) (v192 : Int32) =>
    K189 f190 f191 v192 false
    ) fun K193 =>
    (if v3 = true then
      Option.bind (f_X1_great o2.2.2.1 x0r0r1c o2.2.2.2 o2.2.1 x0r0f4 x0r0f5 x0r0f6 x1 v171 v174 v176) fun o195 =>
      lti (lg_cmp v184 9007199254740992) fun v196 =>
      lt (fun (v197 : Bool) =>
      (if o195.1 = (bI v197) then
        Option.bind (f_X1_great o195.2.2.1 x0r0r1c o195.2.2.2 o195.2.1 x0r0f4 x0r0f5 x0r0f6 x1 v171 v174 v176) fun o200 =>
        (if o200.1 = 0 then
          Option.bind (f_X1_angleDoublings o200.2.2.1 x0r0r1c o200.2.2.2 o200.2.1 x0r0f4 x0r0f5 x0r0f6 x1) fun o202 =>
          (if o202 = v174 then
            Option.bind (f_X1_angleEighths o200.2.2.1 x0r0r1c o200.2.2.2 o200.2.1 x0r0f4 x0r0f5 x0r0f6 x1) fun o204 =>
            (if o204 = (-2147483648) then
              K189 o200.2.2.1 o200.2.2.2 o200.2.1 true
            else
              K193 o200.2.2.1 o200.2.2.2 o200.2.1
            )
          else
            K193 o200.2.2.1 o200.2.2.2 o200.2.1
          )
        else
          K193 o200.2.2.1 o200.2.2.2 o200.2.1
        )
      else
        K193 o195.2.2.1 o195.2.2.2 o195.2.1
      )
      ) fun K198 =>
      (if v196 = 0 then
        K198 false
      else
        K198 true
      )
    else
      K193 o2.2.2.1 o2.2.2.2 o2.2.1
    )
    ) fun K182 =>
    (if v176 = true then
      K182 (-1)
    else
      K182 1
    )
    ) fun K177 =>
    (if v175 = 0 then
      K177 false
    else
      K177 true
    )
  else
    lti (x2 &&& 7) fun v131 =>
    lt (fun (v132 : Int32) =>
    ltl (v132.toInt64) fun v134 =>
    lt (fun (f135 : Nat → UInt64) (f136 : Nat → Int32) (v137 : Int32) (v138 : Bool) =>
    K11 f135 f136 v137 v134 v138
    ) fun K139 =>
    lt (fun (f140 : Nat → UInt64) (f141 : Nat → Int32) (v142 : Int32) =>
    K139 f140 f141 v142 false
    ) fun K143 =>
    (if v3 = true then
      Option.bind (f_X1_eighths o2.2.2.1 x0r0r1c o2.2.2.2 o2.2.1 x0r0f4 x0r0f5 x0r0f6 x1 v132) fun o145 =>
      (if o145.1 = 1 then
        Option.bind (f_X1_eighths o145.2.2.1 x0r0r1c o145.2.2.2 o145.2.1 x0r0f4 x0r0f5 x0r0f6 x1 v132) fun o147 =>
        (if o147.1 = 0 then
          Option.bind (f_X1_angleDoublings o147.2.2.1 x0r0r1c o147.2.2.2 o147.2.1 x0r0f4 x0r0f5 x0r0f6 x1) fun o149 =>
          (if o149 = (-1) then
            Option.bind (f_X1_angleEighths o147.2.2.1 x0r0r1c o147.2.2.2 o147.2.1 x0r0f4 x0r0f5 x0r0f6 x1) fun o151 =>
            (if o151 = v132 then
              K139 o147.2.2.1 o147.2.2.2 o147.2.1 true
            else
              K143 o147.2.2.1 o147.2.2.2 o147.2.1
            )
          else
            K143 o147.2.2.1 o147.2.2.2 o147.2.1
          )
        else
          K143 o147.2.2.1 o147.2.2.2 o147.2.1
        )
      else
        K143 o145.2.2.1 o145.2.2.2 o145.2.1
      )
    else
      K143 o2.2.2.1 o2.2.2.2 o2.2.1
    )
    ) fun K133 =>
    (if v131 = 7 then
      lti (x2 >>> (3 &&& 31)) fun v165 =>
      Option.bind (f_X0_some v165 33) fun o166 =>
      lti (o166 - 16) fun v167 =>
      lti (2048 * v167) fun v168 =>
      K133 v168
    else
      lti (x2 >>> (3 &&& 31)) fun v154 =>
      lti (x2 &&& 3) fun v155 =>
      lt (fun (v156 : Int32) =>
      Option.bind (f_X0_some v154 v156) fun o158 =>
      lti (x2 &&& 3) fun v159 =>
      lt (fun (v160 : Int32) =>
      lti (o158 - v160) fun v162 =>
      K133 v162
      ) fun K161 =>
      (if v159 = 1 then
        K161 100
      else
        K161 32768
      )
      ) fun K157 =>
      (if v155 = 1 then
        K157 200
      else
        K157 65537
      )
    )
  )
  ) fun K4 =>
  lt (fun (_u : Unit) =>
  K4 false
  ) fun K209 =>
  (if o2.1 < 0 then
    K209 ()
  else
    Option.bind (f_X0_its o2.2.2.1 x0r0r1c o2.2.2.2 o2.2.1 x0r0f4 x0r0f5 x0r0f6 x1) fun o211 =>
    lti (lg_cmp o211 9007199254740992) fun v212 =>
    (if v212 = 0 then
      K4 true
    else
      K209 ()
    )
  )
theorem hd_X0_puts : Hd yX0_puts 2 := by unfold Hd; decide +kernel
set_option maxHeartbeats 4000000 in
set_option maxRecDepth 100000 in
theorem m_X0_puts {l : Launch} {D : DD} (x0 : Nat) (x0r0 : Nat) (x0r0r0 : Nat) (x0r0r1 : Nat) (x0r0r2 : Nat)  (x0r0r0c : Nat → UInt64) (x0r0r1c : Nat → UInt64) (x0r0r2c : Nat → Int32) (x0r0f3 : Int32) (x0r0f4 : Int32) (x0r0f5 : Int32) (x0r0f6 : Int32) (x1 : Int32) (x2 : Int32) (r : Bool × Int32 × (Nat → UInt64) × (Nat → Int32)) (h : f_X0_puts x0r0r0c x0r0r1c x0r0r2c x0r0f3 x0r0f4 x0r0f5 x0r0f6 x1 x2 = some r) : MT l D yX0_puts cX0_puts 13 (some .boolean) 13 1520 918 9810 [.ref x0, .int x1, .int x2] (fun H => OA D 1 x0 [.ref x0r0] H ∧ ON D 0 x0r0 [.ref x0r0r0, .ref x0r0r1, .ref x0r0r2, .int x0r0f3, .int x0r0f4, .int x0r0f5, .int x0r0f6] H ∧ dB D ≤ x0r0 ∧ aD D x0r0r0 8 x0r0r0c H ∧ dB D ≤ x0r0r0 ∧ aD D x0r0r1 8 x0r0r1c H ∧ aZ D x0r0r2 8 x0r0r2c H ∧ dB D ≤ x0r0r2 ∧ x0 ≠ x0r0 ∧ x0 ≠ x0r0r0 ∧ x0 ≠ x0r0r2 ∧ x0r0 ≠ x0r0r0 ∧ x0r0 ≠ x0r0r1 ∧ x0r0 ≠ x0r0r2 ∧ x0r0r0 ≠ x0r0r1 ∧ x0r0r0 ≠ x0r0r2 ∧ x0r0r1 ≠ x0r0r2) (pZ (fun H b H' => b = r.1 ∧ ON D 0 x0r0 [.ref x0r0r0, .ref x0r0r1, .ref x0r0r2, .int r.2.1, .int x0r0f4, .int x0r0f5, .int x0r0f6] H' ∧ aD D x0r0r0 8 r.2.2.1 H' ∧ aZ D x0r0r2 8 r.2.2.2 H' ∧ Off (fun a => a = x0r0 ∨ a = x0r0r0 ∨ a = x0r0r2) H H')) := by
  refine MT.start (by decide +kernel) (Nat.le_of_ble_eq_true rfl) ?_
  intro p e s m below meth c ls hC hS hp hl
  obtain ⟨h_x0, h_x0r0, hB_h_x0r0, h_x0r0r0, hB_h_x0r0r0, h_x0r0r1, h_x0r0r2, hB_h_x0r0r2, ne_x0_x0r0, ne_x0_x0r0r0, ne_x0_x0r0r2, ne_x0r0_x0r0r0, ne_x0r0_x0r0r1, ne_x0r0_x0r0r2, ne_x0r0r0_x0r0r1, ne_x0r0r0_x0r0r2, ne_x0r0r1_x0r0r2⟩ := hp
  obtain ⟨hx, hb, hr, hlk, hml, hown, hts, hnm⟩ := id hC
  have hl : lv_has ls 13 [(0, .ref x0), (1, .int x1), (2, .int x2)] := hl
  unfold f_X0_puts at h
  have hS0 := hS
  obtain ⟨A, eA⟩ : ∃ A : Array Value, A = [.ref x0, .int x1, .int x2].toArray := ⟨_, rfl⟩
  rw [← eA] at hC hts ⊢
  obtain ⟨Q, eQ⟩ : ∃ Q : State → Prop, Q = MQ below (TQ D (pZ (fun H b H' => b = r.1 ∧ ON D 0 x0r0 [.ref x0r0r0, .ref x0r0r1, .ref x0r0r2, .int r.2.1, .int x0r0f4, .int x0r0f5, .int x0r0f6] H' ∧ aD D x0r0r0 8 r.2.2.1 H' ∧ aZ D x0r0r2 8 r.2.2.2 H' ∧ Off (fun a => a = x0r0 ∨ a = x0r0r0 ∨ a = x0r0r2) H H'))) A s 918 9810 (fun q => dB D ≤ q) := ⟨_, rfl⟩
  have hF : Off (fun a => a = x0r0 ∨ a = x0r0r0 ∨ a = x0r0r2) s.heap s.heap := Off.rf
  show W p l e R_X0_puts s m A below meth c s.heap [] 0 0 _ _
  rw [← eQ]
  obtain ⟨H, eH⟩ : ∃ H : Heap, H = s.heap := ⟨_, rfl⟩
  obtain ⟨locs, eLc⟩ : ∃ L : List Loc, L = [] := ⟨_, rfl⟩
  have lt_h_x0 := h_x0.lt
  have lt_h_x0r0 := h_x0r0.lt
  have lt_h_x0r0r0 := h_x0r0r0.lt
  have lt_h_x0r0r1 := h_x0r0r1.lt
  have lt_h_x0r0r2 := h_x0r0r2.lt
  rw [← eH, ← eLc]
  have hF : Off (fun a => a = x0r0 ∨ a = x0r0r0 ∨ a = x0r0r2) s.heap H := by rw [eH]; exact hF
  rw [← eH] at h_x0
  rw [← eH] at h_x0r0
  rw [← eH] at h_x0r0r0
  rw [← eH] at h_x0r0r1
  rw [← eH] at h_x0r0r2
  have hS : St D s H locs := by rw [eH, eLc]; exact hS
  refine lv_aload_n hx hb dX0_puts_0 rfl (lv_at hl 0 rfl) ?_
  refine r_get hx hb hts hown hS h_x0 rfl in_X0 0 (by decide) q936 rfl (v := .ref x0r0) rfl dX0_puts_1 ?_
  refine lv_iconst (v := 0) hx hb dX0_puts_4 (by decide) ?_
  obtain ⟨o1, eo1, h⟩ := bind_step h
  refine r_cp (r_runV (rest := []) (As := [.int 0]) hC 1 (m_X1_house x0r0 x0r0r0 x0r0r1 x0r0r2  x0r0r0c x0r0r1c x0r0r2c x0r0f3 x0r0f4 x0r0f5 x0r0f6 0 o1 eo1) q1248 q1249 q1250 q46 q1251 (OA.recv hS h_x0r0.OA (C := RX1) rfl) hd_X1_house rfl ⟨Nat.le_of_ble_eq_true rfl, Nat.le_of_ble_eq_true rfl⟩ hS ⟨h_x0r0, h_x0r0r0, h_x0r0r1, h_x0r0r2⟩ hl.1 rfl (Nat.le_of_ble_eq_true rfl) dX0_puts_5 ⟨Nat.le_of_ble_eq_true rfl, Nat.le_of_ble_eq_true rfl⟩) ?_
  refine lv_istore_n (lv' := [(3, .int o1), (0, .ref x0), (1, .int x1), (2, .int x2)]) hx hb dX0_puts_8 rfl hl (by decide) rfl (fun ls hl => ?_)
  refine lv_aload_n hx hb dX0_puts_9 rfl (lv_at hl 1 rfl) ?_
  refine r_get hx hb hts hown hS h_x0 rfl in_X0 0 (by decide) q936 rfl (v := .ref x0r0) rfl dX0_puts_10 ?_
  refine lv_iload_n hx hb dX0_puts_13 rfl (lv_at hl 2 rfl) ?_
  refine lv_iconst (v := 4) hx hb dX0_puts_14 (by decide) ?_
  obtain ⟨o2, eo2, h⟩ := bind_step h
  refine r_ci (r_runV (rest := []) (As := [.int x1, .int 4]) hC 2 (m_X1_angleKnown x0r0 x0r0r0 x0r0r1 x0r0r2  x0r0r0c x0r0r1c x0r0r2c x0r0f3 x0r0f4 x0r0f5 x0r0f6 x1 4 o2 eo2) q1471 q1472 q1473 q46 q1474 (OA.recv hS h_x0r0.OA (C := RX1) rfl) hd_X1_angleKnown rfl ⟨Nat.le_of_ble_eq_true rfl, Nat.le_of_ble_eq_true rfl⟩ hS ⟨h_x0r0, hB_h_x0r0, h_x0r0r0, hB_h_x0r0r0, h_x0r0r1, h_x0r0r2, hB_h_x0r0r2, ne_x0r0_x0r0r0, ne_x0r0_x0r0r1, ne_x0r0_x0r0r2, ne_x0r0r0_x0r0r1, ne_x0r0r0_x0r0r2, ne_x0r0r1_x0r0r2⟩ hl.1 rfl (Nat.le_of_ble_eq_true rfl) dX0_puts_15 ⟨Nat.le_of_ble_eq_true rfl, Nat.le_of_ble_eq_true rfl⟩) hS (fun b H locs hp hS hz => ?_)
  obtain ⟨rfl, h_x0r0, h_x0r0r0, h_x0r0r2, hO⟩ := hp
  have h_x0 := h_x0.off hO (fun z => by rcases z with z | z | z <;> first | exact ne_x0_x0r0 z | exact ne_x0_x0r0r0 z | exact ne_x0_x0r0r2 z)
  have h_x0r0r1 := h_x0r0r1.off hO (fun z => by rcases z with z | z | z <;> first | exact (Ne.symm ne_x0r0_x0r0r1) z | exact (Ne.symm ne_x0r0r0_x0r0r1) z | exact ne_x0r0r1_x0r0r2 z)
  have hF := hF.fresh hO (fun a ha z => by
    rcases z with z | z | z
    · exact Or.inl z
    · exact Or.inr (Or.inl z)
    · exact Or.inr (Or.inr (z)))
  obtain ⟨K4, eK4, h⟩ := lt_step h
  have HK4 : ∀ (v3 : Bool) (h : K4 v3 = some r) (H : Heap) (locs : List Loc) (hS : St D s H locs) (hF : Off (fun a => a = x0r0 ∨ a = x0r0r0 ∨ a = x0r0r2) s.heap H) (h_x0 : OA D 1 x0 [.ref x0r0] H) (h_x0r0 : ON D 0 x0r0 [.ref x0r0r0, .ref x0r0r1, .ref x0r0r2, .int o2.2.1, .int x0r0f4, .int x0r0f5, .int x0r0f6] H) (h_x0r0r0 : aD D x0r0r0 8 o2.2.2.1 H) (h_x0r0r1 : aD D x0r0r1 8 x0r0r1c H) (h_x0r0r2 : aZ D x0r0r2 8 o2.2.2.2 H) (ls : Array Slot) (hl : lv_has ls 13 [(0, .ref x0), (1, .int x1), (2, .int x2), (3, .int o1)]), W p l e R_X0_puts s m A below meth c H locs 279 2874 Q (F0 m 38 ls [.int (bI v3)]) := by
    intro v3 h H locs hS hF h_x0 h_x0r0 h_x0r0r0 h_x0r0r1 h_x0r0r2 ls hl
    subst eK4
    refine lv_istore (lv' := [(6, .int (bI v3)), (0, .ref x0), (1, .int x1), (2, .int x2), (3, .int o1)]) hx hb dX0_puts_38 hl (by decide) rfl (fun ls hl => ?_)
    refine lv_iload_n hx hb dX0_puts_40 rfl (lv_at hl 3 rfl) ?_
    refine lv_bipush (v := 7) hx hb dX0_puts_41 (by decide) ?_
    obtain ⟨v5, ev5, h⟩ := lti_step h
    refine r_iand hx hb ev5 dX0_puts_43 ?_
    obtain ⟨K11, eK11, h⟩ := lt_step h
    have HK11 : ∀ (f6 : Nat → UInt64) (f7 : Nat → Int32) (v8 : Int32) (v9 : Int64) (v10 : Bool) (h : K11 f6 f7 v8 v9 v10 = some r) (H : Heap) (locs : List Loc) (hS : St D s H locs) (hF : Off (fun a => a = x0r0 ∨ a = x0r0r0 ∨ a = x0r0r2) s.heap H) (h_x0 : OA D 1 x0 [.ref x0r0] H) (h_x0r0 : ON D 0 x0r0 [.ref x0r0r0, .ref x0r0r1, .ref x0r0r2, .int v8, .int x0r0f4, .int x0r0f5, .int x0r0f6] H) (h_x0r0r0 : aD D x0r0r0 8 f6 H) (h_x0r0r1 : aD D x0r0r1 8 x0r0r1c H) (h_x0r0r2 : aZ D x0r0r2 8 f7 H) (ls : Array Slot) (hl : lv_has ls 13 [(0, .ref x0), (1, .int x1), (3, .int o1), (4, .long v9), (6, .int (bI v10))]), W p l e R_X0_puts s m A below meth c H locs 815 8102 Q (F0 m 333 ls []) := by
      intro f6 f7 v8 v9 v10 h H locs hS hF h_x0 h_x0r0 h_x0r0r0 h_x0r0r1 h_x0r0r2 ls hl
      subst eK11
      refine lv_aload_n hx hb dX0_puts_333 rfl (lv_at hl 0 rfl) ?_
      refine r_get hx hb hts hown hS h_x0 rfl in_X0 0 (by decide) q936 rfl (v := .ref x0r0) rfl dX0_puts_334 ?_
      refine lv_iload_n hx hb dX0_puts_337 rfl (lv_at hl 1 rfl) ?_
      obtain ⟨o12, eo12, h⟩ := bind_step h
      refine r_cr (r_runV (rest := []) (As := [.int x1]) hC 1 (m_X1_angleText x0r0 x0r0r0 x0r0r1 x0r0r2  f6 x0r0r1c f7 v8 x0r0f4 x0r0f5 x0r0f6 x1 o12 eo12) q948 q949 q950 q46 q951 (OA.recv hS h_x0r0.OA (C := RX1) rfl) hd_X1_angleText rfl ⟨Nat.le_of_ble_eq_true rfl, Nat.le_of_ble_eq_true rfl⟩ hS ⟨h_x0r0, h_x0r0r0, h_x0r0r1, h_x0r0r2⟩ hl.1 rfl (Nat.le_of_ble_eq_true rfl) dX0_puts_338 ⟨Nat.le_of_ble_eq_true rfl, Nat.le_of_ble_eq_true rfl⟩) hS (fun ad13 H locs hp hS hz => ?_)
      obtain ⟨ad14, had13, had14, lo12_1, frad14, frad13, ne_ad13_ad14, hO⟩ := hp
      have ne_h_x0_had13 : x0 ≠ ad13 := Nat.ne_of_lt (Nat.lt_of_lt_of_le h_x0.lt frad13)
      have ne_h_x0r0_had13 : x0r0 ≠ ad13 := Nat.ne_of_lt (Nat.lt_of_lt_of_le h_x0r0.lt frad13)
      have ne_h_x0r0r0_had13 : x0r0r0 ≠ ad13 := Nat.ne_of_lt (Nat.lt_of_lt_of_le h_x0r0r0.lt frad13)
      have ne_h_x0r0r1_had13 : x0r0r1 ≠ ad13 := Nat.ne_of_lt (Nat.lt_of_lt_of_le h_x0r0r1.lt frad13)
      have ne_h_x0r0r2_had13 : x0r0r2 ≠ ad13 := Nat.ne_of_lt (Nat.lt_of_lt_of_le h_x0r0r2.lt frad13)
      have gad13 : s.heap.size ≤ ad13 := Nat.le_trans hF.1 frad13
      have hB_had13 : dB D ≤ ad13 := by have := hS0.1.2.2.1; omega
      have ne_h_x0_had14 : x0 ≠ ad14 := Nat.ne_of_lt (Nat.lt_of_lt_of_le h_x0.lt frad14)
      have ne_h_x0r0_had14 : x0r0 ≠ ad14 := Nat.ne_of_lt (Nat.lt_of_lt_of_le h_x0r0.lt frad14)
      have ne_h_x0r0r0_had14 : x0r0r0 ≠ ad14 := Nat.ne_of_lt (Nat.lt_of_lt_of_le h_x0r0r0.lt frad14)
      have ne_h_x0r0r1_had14 : x0r0r1 ≠ ad14 := Nat.ne_of_lt (Nat.lt_of_lt_of_le h_x0r0r1.lt frad14)
      have ne_h_x0r0r2_had14 : x0r0r2 ≠ ad14 := Nat.ne_of_lt (Nat.lt_of_lt_of_le h_x0r0r2.lt frad14)
      have gad14 : s.heap.size ≤ ad14 := Nat.le_trans hF.1 frad14
      have hB_had14 : dB D ≤ ad14 := by have := hS0.1.2.2.1; omega
      have h_x0 := h_x0.ext hO
      have h_x0r0 := h_x0r0.ext hO
      have h_x0r0r0 := h_x0r0r0.ext hO
      have h_x0r0r1 := h_x0r0r1.ext hO
      have h_x0r0r2 := h_x0r0r2.ext hO
      have hF := hF.trans (hO.mono (fun _ _ z => z.elim))
      refine lv_astore (lv' := [(7, .ref ad13), (0, .ref x0), (1, .int x1), (3, .int o1), (4, .long v9), (6, .int (bI v10))]) hx hb dX0_puts_341 hl (by decide) rfl (fun ls hl => ?_)
      refine lv_aload hx hb dX0_puts_343 (lv_at hl 0 rfl) ?_
      refine lv_iconst (v := 2) hx hb dX0_puts_345 (by decide) ?_
      obtain ⟨o15, eo15, h⟩ := bind_step h
      refine r_cl (r_runS (rest := []) (As := [.ref ad13, .int 2]) hC 2 (m_X0_part ad13 ad14 0 0 o12.1 o12.2 2 o15 eo15) q1033 q1034 q39 q1035 hd_X0_part rfl ⟨Nat.le_of_ble_eq_true rfl, Nat.le_of_ble_eq_true rfl⟩ hS ⟨had13.OA, had14, lo12_1⟩ hl.1 rfl (Nat.le_of_ble_eq_true rfl) dX0_puts_346 ⟨Nat.le_of_ble_eq_true rfl, Nat.le_of_ble_eq_true rfl⟩) hS (fun b H locs hp hS hz => ?_)
      obtain ⟨eb_, hO⟩ := hp
      rw [eb_]
      have h_x0 := h_x0.ext hO
      have h_x0r0 := h_x0r0.ext hO
      have h_x0r0r0 := h_x0r0r0.ext hO
      have h_x0r0r1 := h_x0r0r1.ext hO
      have h_x0r0r2 := h_x0r0r2.ext hO
      have had13 := had13.ext hO
      have had14 := had14.ext hO
      have hF := hF.trans (hO.mono (fun _ _ z => z.elim))
      refine lv_lstore (lv' := [(8, .long o15), (7, .ref ad13), (0, .ref x0), (1, .int x1), (3, .int o1), (4, .long v9), (6, .int (bI v10))]) hx hb dX0_puts_349 hl (by decide) rfl (fun ls hl => ?_)
      refine lv_iload hx hb dX0_puts_351 (lv_at hl 6 rfl) ?_
      obtain ⟨K17, eK17, h⟩ := lt_step h
      have HK17 : ∀ (v16 : Bool) (h : K17 v16 = some r) (H : Heap) (locs : List Loc) (hS : St D s H locs) (hF : Off (fun a => a = x0r0 ∨ a = x0r0r0 ∨ a = x0r0r2) s.heap H) (h_x0 : OA D 1 x0 [.ref x0r0] H) (h_x0r0 : ON D 0 x0r0 [.ref x0r0r0, .ref x0r0r1, .ref x0r0r2, .int v8, .int x0r0f4, .int x0r0f5, .int x0r0f6] H) (h_x0r0r0 : aD D x0r0r0 8 f6 H) (h_x0r0r1 : aD D x0r0r1 8 x0r0r1c H) (h_x0r0r2 : aZ D x0r0r2 8 f7 H) (had13 : ON D 3 ad13 [.ref ad14, .int 0, .int 0, .int 0] H) (had14 : aB D ad14 o12.1 o12.2 H) (ls : Array Slot) (hl : lv_has ls 13 [(0, .ref x0), (1, .int x1), (7, .ref ad13)]), W p l e R_X0_puts s m A below meth c H locs 837 8622 Q (F0 m 436 ls [.int (bI v16)]) := by
        intro v16 h H locs hS hF h_x0 h_x0r0 h_x0r0r0 h_x0r0r1 h_x0r0r2 had13 had14 ls hl
        subst eK17
        refine lv_istore (lv' := [(6, .int (bI v16)), (0, .ref x0), (1, .int x1), (7, .ref ad13)]) hx hb dX0_puts_436 hl (by decide) rfl (fun ls hl => ?_)
        refine lv_aload_n hx hb dX0_puts_438 rfl (lv_at hl 1 rfl) ?_
        refine r_get hx hb hts hown hS h_x0 rfl in_X0 0 (by decide) q936 rfl (v := .ref x0r0) rfl dX0_puts_439 ?_
        refine lv_iload_n hx hb dX0_puts_442 rfl (lv_at hl 2 rfl) ?_
        refine lv_iconst (v := 0) hx hb dX0_puts_443 (by decide) ?_
        obtain ⟨o18, eo18, h⟩ := bind_step h
        refine r_cp (r_runV (rest := []) (As := [.int x1, .int 0]) hC 2 (m_X1_angleFind x0r0 x0r0r0 x0r0r1 x0r0r2  f6 x0r0r1c f7 v8 x0r0f4 x0r0f5 x0r0f6 x1 false o18 eo18) q1508 q1267 q1268 q46 q1269 (OA.recv hS h_x0r0.OA (C := RX1) rfl) hd_X1_angleFind rfl ⟨Nat.le_of_ble_eq_true rfl, Nat.le_of_ble_eq_true rfl⟩ hS ⟨h_x0r0, h_x0r0r0, h_x0r0r1, h_x0r0r2⟩ hl.1 rfl (Nat.le_of_ble_eq_true rfl) dX0_puts_444 ⟨Nat.le_of_ble_eq_true rfl, Nat.le_of_ble_eq_true rfl⟩) ?_
        refine lv_istore (lv' := [(10, .int o18), (6, .int (bI v16)), (0, .ref x0), (1, .int x1), (7, .ref ad13)]) hx hb dX0_puts_447 hl (by decide) rfl (fun ls hl => ?_)
        refine lv_aload_n hx hb dX0_puts_449 rfl (lv_at hl 2 rfl) ?_
        refine r_get hx hb hts hown hS h_x0 rfl in_X0 0 (by decide) q936 rfl (v := .ref x0r0) rfl dX0_puts_450 ?_
        refine lv_iload_n hx hb dX0_puts_453 rfl (lv_at hl 3 rfl) ?_
        refine lv_iconst (v := 1) hx hb dX0_puts_454 (by decide) ?_
        obtain ⟨o19, eo19, h⟩ := bind_step h
        refine r_cp (r_runV (rest := []) (As := [.int x1, .int 1]) hC 2 (m_X1_angleFind x0r0 x0r0r0 x0r0r1 x0r0r2  f6 x0r0r1c f7 v8 x0r0f4 x0r0f5 x0r0f6 x1 true o19 eo19) q1508 q1267 q1268 q46 q1269 (OA.recv hS h_x0r0.OA (C := RX1) rfl) hd_X1_angleFind rfl ⟨Nat.le_of_ble_eq_true rfl, Nat.le_of_ble_eq_true rfl⟩ hS ⟨h_x0r0, h_x0r0r0, h_x0r0r1, h_x0r0r2⟩ hl.1 rfl (Nat.le_of_ble_eq_true rfl) dX0_puts_455 ⟨Nat.le_of_ble_eq_true rfl, Nat.le_of_ble_eq_true rfl⟩) ?_
        refine lv_istore (lv' := [(11, .int o19), (10, .int o18), (6, .int (bI v16)), (0, .ref x0), (1, .int x1), (7, .ref ad13)]) hx hb dX0_puts_458 hl (by decide) rfl (fun ls hl => ?_)
        refine lv_iconst (v := 0) hx hb dX0_puts_460 (by decide) ?_
        refine lv_istore (lv' := [(12, .int 0), (11, .int o19), (10, .int o18), (6, .int (bI v16)), (0, .ref x0), (1, .int x1), (7, .ref ad13)]) hx hb dX0_puts_461 hl (by decide) rfl (fun ls hl => ?_)
        obtain ⟨F79, eF79, h⟩ := lt_step h
        obtain ⟨w80, ew80, h⟩ := bind_step h
        obtain ⟨CE, eCE⟩ : ∃ x : Nat, x = 837 + 81 := ⟨_, rfl⟩
        obtain ⟨SE, eSE⟩ : ∃ x : Nat, x = 8622 + 1188 := ⟨_, rfl⟩
        have hCE : CE ≤ R_X0_puts.cells := (by rw [eCE]; exact Nat.le_of_ble_eq_true rfl)
        have hSE : SE ≤ R_X0_puts.slots := (by rw [eSE]; exact Nat.le_of_ble_eq_true rfl)
        have HL : ∀ (n : Nat) (v20 : Bool) (v21 : Int32) (w80 : Bool) (hk0 : lp n (fun x => F79 x.1 x.2) (v20, v21) = some w80) (cl : Nat) (sl : Nat) (hcl : cl + 9 * n ≤ CE) (hsl : sl + 132 * n ≤ SE) (H : Heap) (locs : List Loc) (hS : St D s H locs) (hF : Off (fun a => a = x0r0 ∨ a = x0r0r0 ∨ a = x0r0r2) s.heap H) (h_x0 : OA D 1 x0 [.ref x0r0] H) (h_x0r0 : ON D 0 x0r0 [.ref x0r0r0, .ref x0r0r1, .ref x0r0r2, .int v8, .int x0r0f4, .int x0r0f5, .int x0r0f6] H) (h_x0r0r0 : aD D x0r0r0 8 f6 H) (h_x0r0r1 : aD D x0r0r1 8 x0r0r1c H) (h_x0r0r2 : aZ D x0r0r2 8 f7 H) (had13 : ON D 3 ad13 [.ref ad14, .int 0, .int 0, .int 0] H) (had14 : aB D ad14 o12.1 o12.2 H) (ls : Array Slot) (hl : lv_has ls 13 [(0, .ref x0), (1, .int x1), (6, .int (bI v20)), (7, .ref ad13), (10, .int o18), (11, .int o19), (12, .int v21)]) (K581 : ∀ (H : Heap) (locs : List Loc) (hS : St D s H locs) (hF : Off (fun a => a = x0r0 ∨ a = x0r0r0 ∨ a = x0r0r2) s.heap H) (h_x0 : OA D 1 x0 [.ref x0r0] H) (h_x0r0 : ON D 0 x0r0 [.ref x0r0r0, .ref x0r0r1, .ref x0r0r2, .int v8, .int x0r0f4, .int x0r0f5, .int x0r0f6] H) (h_x0r0r0 : aD D x0r0r0 8 f6 H) (h_x0r0r1 : aD D x0r0r1 8 x0r0r1c H) (h_x0r0r2 : aZ D x0r0r2 8 f7 H) (ls : Array Slot) (hl : lv_has ls 13 [(6, .int (bI w80))]), W p l e R_X0_puts s m A below meth c H locs CE SE Q (F0 m 581 ls [])), W p l e R_X0_puts s m A below meth c H locs cl sl Q (F0 m 463 ls []) := by
          intro n
          induction n with
          | zero => intro v20 v21 w80 hk0 cl sl hcl hsl H locs hS hF h_x0 h_x0r0 h_x0r0r0 h_x0r0r1 h_x0r0r2 had13 had14 ls hl K581; exact lp_zero hk0
          | succ n ih =>
            intro v20 v21 w80 hk0 cl sl hcl hsl H locs hS hF h_x0 h_x0r0 h_x0r0r0 h_x0r0r1 h_x0r0r2 had13 had14 ls hl K581
            obtain ⟨z81, hz, hk⟩ := lp_step hk0
            have h := (congrFun (congrFun (eF79) v20) v21).symm.trans hz
            have hcO : cl + 9 ≤ CE := al_out hcl
            have hcE : cl + 9 ≤ R_X0_puts.cells := Nat.le_trans hcO hCE
            have hcN : ∀ a, a ≤ 9 → cl + a + 9 * n ≤ CE := fun a ha => al_next hcl ha
            have hcN0 : cl + 9 * n ≤ CE := al_next hcl (Nat.zero_le _)
            have hsO : sl + 132 ≤ SE := al_out hsl
            have hsE : sl + 132 ≤ R_X0_puts.slots := Nat.le_trans hsO hSE
            have hsN : ∀ a, a ≤ 132 → sl + a + 132 * n ≤ SE := fun a ha => al_next hsl ha
            have hsN0 : sl + 132 * n ≤ SE := al_next hsl (Nat.zero_le _)
            clear hcl hsl
            refine lv_iload hx hb dX0_puts_463 (lv_at hl 6 rfl) ?_
            refine lv_bipush (v := 8) hx hb dX0_puts_465 (by decide) ?_
            refine lv_icmp_ge (tgt := 581) hx hb dX0_puts_467 (by decide) (fun c82 => ?_) (fun c82 => ?_)
            · have h := it_pos h c82
              obtain rfl := Option.some.inj h
              obtain rfl := id hk
              refine W.widen (k := CE) (n := SE) (by omega) (by omega) ?_
              exact K581 H locs hS hF h_x0 h_x0r0 h_x0r0r0 h_x0r0r1 h_x0r0r2 ls (lv_sub hl [2] rfl)
            · have h := it_neg h c82
              refine lv_iload hx hb dX0_puts_470 (lv_at hl 2 rfl) ?_
              obtain ⟨K84, eK84, h⟩ := lt_step h
              have HK84 : ∀ (v83 : Bool) (h : K84 v83 = some z81) (H : Heap) (locs : List Loc) (hS : St D s H locs) (hF : Off (fun a => a = x0r0 ∨ a = x0r0r0 ∨ a = x0r0r2) s.heap H) (h_x0 : OA D 1 x0 [.ref x0r0] H) (h_x0r0 : ON D 0 x0r0 [.ref x0r0r0, .ref x0r0r1, .ref x0r0r2, .int v8, .int x0r0f4, .int x0r0f5, .int x0r0f6] H) (h_x0r0r0 : aD D x0r0r0 8 f6 H) (h_x0r0r1 : aD D x0r0r1 8 x0r0r1c H) (h_x0r0r2 : aZ D x0r0r2 8 f7 H) (had13 : ON D 3 ad13 [.ref ad14, .int 0, .int 0, .int 0] H) (had14 : aB D ad14 o12.1 o12.2 H) (ls : Array Slot) (hl : lv_has ls 13 [(0, .ref x0), (1, .int x1), (7, .ref ad13), (10, .int o18), (11, .int o19), (12, .int v21)]), W p l e R_X0_puts s m A below meth c H locs (cl + 9) (sl + 132) Q (F0 m 573 ls [.int (bI v83)]) := by
                intro v83 h H locs hS hF h_x0 h_x0r0 h_x0r0r0 h_x0r0r1 h_x0r0r2 had13 had14 ls hl
                subst eK84
                refine lv_istore (lv' := [(6, .int (bI v83)), (0, .ref x0), (1, .int x1), (7, .ref ad13), (10, .int o18), (11, .int o19), (12, .int v21)]) hx hb dX0_puts_573 hl (by decide) rfl (fun ls hl => ?_)
                obtain ⟨v85, ev85, h⟩ := lti_step h
                refine lv_iinc (v := v85) (lv' := [(12, .int v85), (6, .int (bI v83)), (0, .ref x0), (1, .int x1), (7, .ref ad13), (10, .int o18), (11, .int o19)]) hx hb dX0_puts_575 hl (k := 6) rfl (by rw [ev85]; rfl) (by decide) rfl (fun ls hl => ?_)
                refine lv_goto (tgt := 463) hx hb dX0_puts_578 (by decide) ?_
                obtain rfl := Option.some.inj h
                exact ih v83 v85 w80 hk _ _ (hcN 9 (Nat.le_of_ble_eq_true rfl)) (hsN 132 (Nat.le_of_ble_eq_true rfl)) H locs hS hF h_x0 h_x0r0 h_x0r0r0 h_x0r0r1 h_x0r0r2 had13 had14 ls (lv_sub hl [2, 3, 1, 4, 5, 6, 0] rfl) K581
              clear eK84
              obtain ⟨K86, eK86, h⟩ := lt_step h
              have HK86 : ∀  (h : K86 () = some z81) (H : Heap) (locs : List Loc) (hS : St D s H locs) (hF : Off (fun a => a = x0r0 ∨ a = x0r0r0 ∨ a = x0r0r2) s.heap H) (h_x0 : OA D 1 x0 [.ref x0r0] H) (h_x0r0 : ON D 0 x0r0 [.ref x0r0r0, .ref x0r0r1, .ref x0r0r2, .int v8, .int x0r0f4, .int x0r0f5, .int x0r0f6] H) (h_x0r0r0 : aD D x0r0r0 8 f6 H) (h_x0r0r1 : aD D x0r0r1 8 x0r0r1c H) (h_x0r0r2 : aZ D x0r0r2 8 f7 H) (had13 : ON D 3 ad13 [.ref ad14, .int 0, .int 0, .int 0] H) (had14 : aB D ad14 o12.1 o12.2 H) (ls : Array Slot) (hl : lv_has ls 13 [(0, .ref x0), (1, .int x1), (7, .ref ad13), (10, .int o18), (11, .int o19), (12, .int v21)]), W p l e R_X0_puts s m A below meth c H locs (cl + 9) (sl + 132) Q (F0 m 572 ls []) := by
                intro h H locs hS hF h_x0 h_x0r0 h_x0r0r0 h_x0r0r1 h_x0r0r2 had13 had14 ls hl
                subst eK86
                refine lv_iconst (v := 0) hx hb dX0_puts_572 (by decide) ?_
                exact HK84 false h H locs hS hF h_x0 h_x0r0 h_x0r0r0 h_x0r0r1 h_x0r0r2 had13 had14 ls (lv_sub hl [0, 1, 2, 3, 4, 5] rfl)
              clear eK86
              refine r_ifz_eq (tgt := 572) hx hb dX0_puts_472 (by decide) (fun c87 => ?_) (fun c87 => ?_)
              · have h := it_neg h (by rw [c87]; decide)
                refine W.widen (k := cl + 9) (n := sl + 132) (by omega) (by omega) ?_
                exact HK86  h H locs hS hF h_x0 h_x0r0 h_x0r0r0 h_x0r0r1 h_x0r0r2 had13 had14 ls (lv_sub hl [0, 1, 3, 4, 5, 6] rfl)
              · have h := it_pos h (by rw [c87])
                refine lv_iload hx hb dX0_puts_475 (lv_at hl 6 rfl) ?_
                refine lv_iload hx hb dX0_puts_477 (lv_at hl 4 rfl) ?_
                obtain ⟨K88, eK88, h⟩ := lt_step h
                have HK88 : ∀  (h : K88 () = some z81) (H : Heap) (locs : List Loc) (hS : St D s H locs) (hF : Off (fun a => a = x0r0 ∨ a = x0r0r0 ∨ a = x0r0r2) s.heap H) (h_x0 : OA D 1 x0 [.ref x0r0] H) (h_x0r0 : ON D 0 x0r0 [.ref x0r0r0, .ref x0r0r1, .ref x0r0r2, .int v8, .int x0r0f4, .int x0r0f5, .int x0r0f6] H) (h_x0r0r0 : aD D x0r0r0 8 f6 H) (h_x0r0r1 : aD D x0r0r1 8 x0r0r1c H) (h_x0r0r2 : aZ D x0r0r2 8 f7 H) (had13 : ON D 3 ad13 [.ref ad14, .int 0, .int 0, .int 0] H) (had14 : aB D ad14 o12.1 o12.2 H) (ls : Array Slot) (hl : lv_has ls 13 [(0, .ref x0), (1, .int x1), (7, .ref ad13), (10, .int o18), (11, .int o19), (12, .int v21)]), W p l e R_X0_puts s m A below meth c H locs (cl + 2) (sl + 2) Q (F0 m 540 ls []) := by
                  intro h H locs hS hF h_x0 h_x0r0 h_x0r0r0 h_x0r0r1 h_x0r0r2 had13 had14 ls hl
                  subst eK88
                  refine lv_aload_n hx hb dX0_puts_540 rfl (lv_at hl 0 rfl) ?_
                  refine r_get hx hb hts hown hS h_x0 rfl in_X0 0 (by decide) q936 rfl (v := .ref x0r0) rfl dX0_puts_541 ?_
                  refine lv_iload hx hb dX0_puts_544 (lv_at hl 5 rfl) ?_
                  refine lv_iload_n hx hb dX0_puts_546 rfl (lv_at hl 1 rfl) ?_
                  refine lv_iconst (v := 0) hx hb dX0_puts_547 (by decide) ?_
                  obtain ⟨o89, eo89, h⟩ := bind_step h
                  refine r_cz (r_runV (rest := []) (As := [.int v21, .int x1, .int 0]) hC 3 (m_X1_angleSame x0r0 x0r0r0 x0r0r1 x0r0r2  f6 x0r0r1c f7 v8 x0r0f4 x0r0f5 x0r0f6 v21 x1 0 o89 eo89) q1509 q1510 q1511 q46 q1512 (OA.recv hS h_x0r0.OA (C := RX1) rfl) hd_X1_angleSame rfl ⟨Nat.le_of_ble_eq_true rfl, Nat.le_of_ble_eq_true rfl⟩ hS ⟨h_x0r0, h_x0r0r0, h_x0r0r1, h_x0r0r2⟩ hl.1 rfl (Nat.le_of_ble_eq_true rfl) dX0_puts_548 ⟨by have := hcE; have := hsE; omega, by have := hcE; have := hsE; omega⟩) hS (fun b H locs hp hS hz => ?_)
                  obtain ⟨eb_, hO⟩ := hp
                  rw [eb_]
                  have h_x0 := h_x0.ext hO
                  have h_x0r0 := h_x0r0.ext hO
                  have h_x0r0r0 := h_x0r0r0.ext hO
                  have h_x0r0r1 := h_x0r0r1.ext hO
                  have h_x0r0r2 := h_x0r0r2.ext hO
                  have had13 := had13.ext hO
                  have had14 := had14.ext hO
                  have hF := hF.trans (hO.mono (fun _ _ z => z.elim))
                  refine lv_aload_n hx hb dX0_puts_551 rfl (lv_at hl 0 rfl) ?_
                  refine r_get hx hb hts hown hS h_x0 rfl in_X0 0 (by decide) q936 rfl (v := .ref x0r0) rfl dX0_puts_552 ?_
                  refine lv_iload hx hb dX0_puts_555 (lv_at hl 5 rfl) ?_
                  obtain ⟨o90, eo90, h⟩ := bind_step h
                  refine r_cr (r_runV (rest := [.int (bI o89)]) (As := [.int v21]) hC 1 (m_X1_angleText x0r0 x0r0r0 x0r0r1 x0r0r2  f6 x0r0r1c f7 v8 x0r0f4 x0r0f5 x0r0f6 v21 o90 eo90) q948 q949 q950 q46 q951 (OA.recv hS h_x0r0.OA (C := RX1) rfl) hd_X1_angleText rfl ⟨Nat.le_of_ble_eq_true rfl, Nat.le_of_ble_eq_true rfl⟩ hS ⟨h_x0r0, h_x0r0r0, h_x0r0r1, h_x0r0r2⟩ hl.1 rfl (Nat.le_of_ble_eq_true rfl) dX0_puts_557 ⟨by have := hcE; have := hsE; omega, by have := hcE; have := hsE; omega⟩) hS (fun ad91 H locs hp hS hz => ?_)
                  obtain ⟨ad92, had91, had92, lo90_1, frad92, frad91, ne_ad91_ad92, hO⟩ := hp
                  have ne_h_x0_had91 : x0 ≠ ad91 := Nat.ne_of_lt (Nat.lt_of_lt_of_le h_x0.lt frad91)
                  have ne_h_x0r0_had91 : x0r0 ≠ ad91 := Nat.ne_of_lt (Nat.lt_of_lt_of_le h_x0r0.lt frad91)
                  have ne_h_x0r0r0_had91 : x0r0r0 ≠ ad91 := Nat.ne_of_lt (Nat.lt_of_lt_of_le h_x0r0r0.lt frad91)
                  have ne_h_x0r0r1_had91 : x0r0r1 ≠ ad91 := Nat.ne_of_lt (Nat.lt_of_lt_of_le h_x0r0r1.lt frad91)
                  have ne_h_x0r0r2_had91 : x0r0r2 ≠ ad91 := Nat.ne_of_lt (Nat.lt_of_lt_of_le h_x0r0r2.lt frad91)
                  have ne_had13_had91 : ad13 ≠ ad91 := Nat.ne_of_lt (Nat.lt_of_lt_of_le had13.lt frad91)
                  have ne_had14_had91 : ad14 ≠ ad91 := Nat.ne_of_lt (Nat.lt_of_lt_of_le had14.lt frad91)
                  have gad91 : s.heap.size ≤ ad91 := Nat.le_trans hF.1 frad91
                  have hB_had91 : dB D ≤ ad91 := by have := hS0.1.2.2.1; omega
                  have ne_h_x0_had92 : x0 ≠ ad92 := Nat.ne_of_lt (Nat.lt_of_lt_of_le h_x0.lt frad92)
                  have ne_h_x0r0_had92 : x0r0 ≠ ad92 := Nat.ne_of_lt (Nat.lt_of_lt_of_le h_x0r0.lt frad92)
                  have ne_h_x0r0r0_had92 : x0r0r0 ≠ ad92 := Nat.ne_of_lt (Nat.lt_of_lt_of_le h_x0r0r0.lt frad92)
                  have ne_h_x0r0r1_had92 : x0r0r1 ≠ ad92 := Nat.ne_of_lt (Nat.lt_of_lt_of_le h_x0r0r1.lt frad92)
                  have ne_h_x0r0r2_had92 : x0r0r2 ≠ ad92 := Nat.ne_of_lt (Nat.lt_of_lt_of_le h_x0r0r2.lt frad92)
                  have ne_had13_had92 : ad13 ≠ ad92 := Nat.ne_of_lt (Nat.lt_of_lt_of_le had13.lt frad92)
                  have ne_had14_had92 : ad14 ≠ ad92 := Nat.ne_of_lt (Nat.lt_of_lt_of_le had14.lt frad92)
                  have gad92 : s.heap.size ≤ ad92 := Nat.le_trans hF.1 frad92
                  have hB_had92 : dB D ≤ ad92 := by have := hS0.1.2.2.1; omega
                  have h_x0 := h_x0.ext hO
                  have h_x0r0 := h_x0r0.ext hO
                  have h_x0r0r0 := h_x0r0r0.ext hO
                  have h_x0r0r1 := h_x0r0r1.ext hO
                  have h_x0r0r2 := h_x0r0r2.ext hO
                  have had13 := had13.ext hO
                  have had14 := had14.ext hO
                  have hF := hF.trans (hO.mono (fun _ _ z => z.elim))
                  refine lv_aload hx hb dX0_puts_560 (lv_at hl 2 rfl) ?_
                  obtain ⟨o93, eo93, h⟩ := bind_step h
                  refine r_cp (r_runV (rest := [.int (bI o89)]) (As := [.ref ad13]) hC 1 (m_J5_equals ad91 ad92 ad13 ad14 0 0 0 0 o90.1 o90.2 o12.1 o12.2 o93 eo93) q1513 q1442 q1784 q45 q1443 (OA.recv hS had91.OA (C := RJ5) rfl) hd_J5_equals rfl ⟨Nat.le_of_ble_eq_true rfl, Nat.le_of_ble_eq_true rfl⟩ hS ⟨had91.OA, had92, lo90_1, had13.OA, had14, lo12_1, (Ne.symm ne_had13_had91)⟩ hl.1 rfl (Nat.le_of_ble_eq_true rfl) dX0_puts_562 ⟨by have := hcE; have := hsE; omega, by have := hcE; have := hsE; omega⟩) ?_
                  refine lv_icmp_ne (tgt := 572) hx hb dX0_puts_565 (by decide) (fun c94 => ?_) (fun c94 => ?_)
                  · have h := it_neg h c94
                    exact HK86  h H locs hS hF h_x0 h_x0r0 h_x0r0r0 h_x0r0r1 h_x0r0r2 had13 had14 ls (lv_sub hl [0, 1, 2, 3, 4, 5] rfl)
                  · have h := it_pos h c94
                    refine lv_iconst (v := 1) hx hb dX0_puts_568 (by decide) ?_
                    refine lv_goto (tgt := 573) hx hb dX0_puts_569 (by decide) ?_
                    exact HK84 true h H locs hS hF h_x0 h_x0r0 h_x0r0r0 h_x0r0r1 h_x0r0r2 had13 had14 ls (lv_sub hl [0, 1, 2, 3, 4, 5] rfl)
                clear eK88
                obtain ⟨K95, eK95, h⟩ := lt_step h
                have HK95 : ∀  (h : K95 () = some z81) (H : Heap) (locs : List Loc) (hS : St D s H locs) (hF : Off (fun a => a = x0r0 ∨ a = x0r0r0 ∨ a = x0r0r2) s.heap H) (h_x0 : OA D 1 x0 [.ref x0r0] H) (h_x0r0 : ON D 0 x0r0 [.ref x0r0r0, .ref x0r0r1, .ref x0r0r2, .int v8, .int x0r0f4, .int x0r0f5, .int x0r0f6] H) (h_x0r0r0 : aD D x0r0r0 8 f6 H) (h_x0r0r1 : aD D x0r0r1 8 x0r0r1c H) (h_x0r0r2 : aZ D x0r0r2 8 f7 H) (had13 : ON D 3 ad13 [.ref ad14, .int 0, .int 0, .int 0] H) (had14 : aB D ad14 o12.1 o12.2 H) (ls : Array Slot) (hl : lv_has ls 13 [(0, .ref x0), (1, .int x1), (7, .ref ad13), (10, .int o18), (11, .int o19), (12, .int v21)]), W p l e R_X0_puts s m A below meth c H locs cl sl Q (F0 m 489 ls []) := by
                  intro h H locs hS hF h_x0 h_x0r0 h_x0r0r0 h_x0r0r1 h_x0r0r2 had13 had14 ls hl
                  subst eK95
                  refine lv_aload_n hx hb dX0_puts_489 rfl (lv_at hl 0 rfl) ?_
                  refine r_get hx hb hts hown hS h_x0 rfl in_X0 0 (by decide) q936 rfl (v := .ref x0r0) rfl dX0_puts_490 ?_
                  refine lv_iload hx hb dX0_puts_493 (lv_at hl 5 rfl) ?_
                  refine lv_iload_n hx hb dX0_puts_495 rfl (lv_at hl 1 rfl) ?_
                  refine lv_iload hx hb dX0_puts_496 (lv_at hl 5 rfl) ?_
                  refine lv_iconst (v := 3) hx hb dX0_puts_498 (by decide) ?_
                  obtain ⟨v96, ev96, h⟩ := lti_step h
                  refine r_irem hx hb ev96 (by decide) dX0_puts_499 ?_
                  obtain ⟨o97, eo97, h⟩ := bind_step h
                  refine r_cz (r_runV (rest := []) (As := [.int v21, .int x1, .int v96]) hC 3 (m_X1_angleSame x0r0 x0r0r0 x0r0r1 x0r0r2  f6 x0r0r1c f7 v8 x0r0f4 x0r0f5 x0r0f6 v21 x1 v96 o97 eo97) q1509 q1510 q1511 q46 q1512 (OA.recv hS h_x0r0.OA (C := RX1) rfl) hd_X1_angleSame rfl ⟨Nat.le_of_ble_eq_true rfl, Nat.le_of_ble_eq_true rfl⟩ hS ⟨h_x0r0, h_x0r0r0, h_x0r0r1, h_x0r0r2⟩ hl.1 rfl (Nat.le_of_ble_eq_true rfl) dX0_puts_500 ⟨by have := hcE; have := hsE; omega, by have := hcE; have := hsE; omega⟩) hS (fun b H locs hp hS hz => ?_)
                  obtain ⟨eb_, hO⟩ := hp
                  rw [eb_]
                  have h_x0 := h_x0.ext hO
                  have h_x0r0 := h_x0r0.ext hO
                  have h_x0r0r0 := h_x0r0r0.ext hO
                  have h_x0r0r1 := h_x0r0r1.ext hO
                  have h_x0r0r2 := h_x0r0r2.ext hO
                  have had13 := had13.ext hO
                  have had14 := had14.ext hO
                  have hF := hF.trans (hO.mono (fun _ _ z => z.elim))
                  refine r_ifz_eq (tgt := 572) hx hb dX0_puts_503 (by decide) (fun c98 => ?_) (fun c98 => ?_)
                  · have h := it_neg h (by rw [c98]; decide)
                    refine W.widen (k := cl + 9) (n := sl + 132) (by omega) (by omega) ?_
                    exact HK86  h H locs hS hF h_x0 h_x0r0 h_x0r0r0 h_x0r0r1 h_x0r0r2 had13 had14 ls (lv_sub hl [0, 1, 2, 3, 4, 5] rfl)
                  · have h := it_pos h (by rw [c98])
                    refine lv_goto (tgt := 540) hx hb dX0_puts_506 (by decide) ?_
                    exact HK88  h H locs hS hF h_x0 h_x0r0 h_x0r0r0 h_x0r0r1 h_x0r0r2 had13 had14 ls (lv_sub hl [0, 1, 2, 3, 4, 5] rfl)
                clear eK95
                refine lv_icmp_eq (tgt := 489) hx hb dX0_puts_479 (by decide) (fun c99 => ?_) (fun c99 => ?_)
                · have h := it_pos h c99
                  exact HK95  h H locs hS hF h_x0 h_x0r0 h_x0r0r0 h_x0r0r1 h_x0r0r2 had13 had14 ls (lv_sub hl [0, 1, 3, 4, 5, 6] rfl)
                · have h := it_neg h c99
                  refine lv_iload hx hb dX0_puts_482 (lv_at hl 6 rfl) ?_
                  refine lv_iload hx hb dX0_puts_484 (lv_at hl 5 rfl) ?_
                  refine lv_icmp_ne (tgt := 509) hx hb dX0_puts_486 (by decide) (fun c100 => ?_) (fun c100 => ?_)
                  · have h := it_neg h c100
                    refine lv_iload hx hb dX0_puts_509 (lv_at hl 6 rfl) ?_
                    refine lv_iload hx hb dX0_puts_511 (lv_at hl 4 rfl) ?_
                    obtain ⟨K101, eK101, h⟩ := lt_step h
                    have HK101 : ∀  (h : K101 () = some z81) (H : Heap) (locs : List Loc) (hS : St D s H locs) (hF : Off (fun a => a = x0r0 ∨ a = x0r0r0 ∨ a = x0r0r2) s.heap H) (h_x0 : OA D 1 x0 [.ref x0r0] H) (h_x0r0 : ON D 0 x0r0 [.ref x0r0r0, .ref x0r0r1, .ref x0r0r2, .int v8, .int x0r0f4, .int x0r0f5, .int x0r0f6] H) (h_x0r0r0 : aD D x0r0r0 8 f6 H) (h_x0r0r1 : aD D x0r0r1 8 x0r0r1c H) (h_x0r0r2 : aZ D x0r0r2 8 f7 H) (had13 : ON D 3 ad13 [.ref ad14, .int 0, .int 0, .int 0] H) (had14 : aB D ad14 o12.1 o12.2 H) (ls : Array Slot) (hl : lv_has ls 13 [(0, .ref x0), (1, .int x1), (7, .ref ad13), (10, .int o18), (11, .int o19), (12, .int v21)]), W p l e R_X0_puts s m A below meth c H locs cl sl Q (F0 m 523 ls []) := by
                      intro h H locs hS hF h_x0 h_x0r0 h_x0r0r0 h_x0r0r1 h_x0r0r2 had13 had14 ls hl
                      subst eK101
                      refine lv_aload_n hx hb dX0_puts_523 rfl (lv_at hl 0 rfl) ?_
                      refine r_get hx hb hts hown hS h_x0 rfl in_X0 0 (by decide) q936 rfl (v := .ref x0r0) rfl dX0_puts_524 ?_
                      refine lv_iload hx hb dX0_puts_527 (lv_at hl 5 rfl) ?_
                      refine lv_iload_n hx hb dX0_puts_529 rfl (lv_at hl 1 rfl) ?_
                      refine lv_iload hx hb dX0_puts_530 (lv_at hl 5 rfl) ?_
                      refine lv_iconst (v := 3) hx hb dX0_puts_532 (by decide) ?_
                      obtain ⟨v102, ev102, h⟩ := lti_step h
                      refine r_irem hx hb ev102 (by decide) dX0_puts_533 ?_
                      obtain ⟨o103, eo103, h⟩ := bind_step h
                      refine r_cz (r_runV (rest := []) (As := [.int v21, .int x1, .int v102]) hC 3 (m_X1_angleSame x0r0 x0r0r0 x0r0r1 x0r0r2  f6 x0r0r1c f7 v8 x0r0f4 x0r0f5 x0r0f6 v21 x1 v102 o103 eo103) q1509 q1510 q1511 q46 q1512 (OA.recv hS h_x0r0.OA (C := RX1) rfl) hd_X1_angleSame rfl ⟨Nat.le_of_ble_eq_true rfl, Nat.le_of_ble_eq_true rfl⟩ hS ⟨h_x0r0, h_x0r0r0, h_x0r0r1, h_x0r0r2⟩ hl.1 rfl (Nat.le_of_ble_eq_true rfl) dX0_puts_534 ⟨by have := hcE; have := hsE; omega, by have := hcE; have := hsE; omega⟩) hS (fun b H locs hp hS hz => ?_)
                      obtain ⟨eb_, hO⟩ := hp
                      rw [eb_]
                      have h_x0 := h_x0.ext hO
                      have h_x0r0 := h_x0r0.ext hO
                      have h_x0r0r0 := h_x0r0r0.ext hO
                      have h_x0r0r1 := h_x0r0r1.ext hO
                      have h_x0r0r2 := h_x0r0r2.ext hO
                      have had13 := had13.ext hO
                      have had14 := had14.ext hO
                      have hF := hF.trans (hO.mono (fun _ _ z => z.elim))
                      refine r_ifz_ne (tgt := 572) hx hb dX0_puts_537 (by decide) (fun c104 => ?_) (fun c104 => ?_)
                      · have h := it_pos h (by rw [c104])
                        refine W.widen (k := cl + 9) (n := sl + 132) (by omega) (by omega) ?_
                        exact HK86  h H locs hS hF h_x0 h_x0r0 h_x0r0r0 h_x0r0r1 h_x0r0r2 had13 had14 ls (lv_sub hl [0, 1, 2, 3, 4, 5] rfl)
                      · have h := it_neg h (by rw [c104]; decide)
                        exact HK88  h H locs hS hF h_x0 h_x0r0 h_x0r0r0 h_x0r0r1 h_x0r0r2 had13 had14 ls (lv_sub hl [0, 1, 2, 3, 4, 5] rfl)
                    clear eK101
                    refine lv_icmp_le (tgt := 523) hx hb dX0_puts_513 (by decide) (fun c105 => ?_) (fun c105 => ?_)
                    · have h := it_pos h c105
                      exact HK101  h H locs hS hF h_x0 h_x0r0 h_x0r0r0 h_x0r0r1 h_x0r0r2 had13 had14 ls (lv_sub hl [0, 1, 3, 4, 5, 6] rfl)
                    · have h := it_neg h c105
                      refine lv_iload hx hb dX0_puts_516 (lv_at hl 6 rfl) ?_
                      refine lv_iload hx hb dX0_puts_518 (lv_at hl 5 rfl) ?_
                      refine lv_icmp_lt (tgt := 540) hx hb dX0_puts_520 (by decide) (fun c106 => ?_) (fun c106 => ?_)
                      · have h := it_pos h c106
                        refine W.widen (k := cl + 2) (n := sl + 2) (by omega) (by omega) ?_
                        exact HK88  h H locs hS hF h_x0 h_x0r0 h_x0r0r0 h_x0r0r1 h_x0r0r2 had13 had14 ls (lv_sub hl [0, 1, 3, 4, 5, 6] rfl)
                      · have h := it_neg h c106
                        exact HK101  h H locs hS hF h_x0 h_x0r0 h_x0r0r0 h_x0r0r1 h_x0r0r2 had13 had14 ls (lv_sub hl [0, 1, 3, 4, 5, 6] rfl)
                  · have h := it_pos h c100
                    exact HK95  h H locs hS hF h_x0 h_x0r0 h_x0r0r0 h_x0r0r1 h_x0r0r2 had13 had14 ls (lv_sub hl [0, 1, 3, 4, 5, 6] rfl)
        clear eF79
        refine HL 9 v16 0 w80 ew80 _ _ (Nat.le_of_eq eCE.symm) (Nat.le_of_eq eSE.symm) H locs hS hF h_x0 h_x0r0 h_x0r0r0 h_x0r0r1 h_x0r0r2 had13 had14 ls (lv_sub hl [4, 5, 3, 6, 2, 1, 0] rfl) (fun  H locs hS hF h_x0 h_x0r0 h_x0r0r0 h_x0r0r1 h_x0r0r2 ls hl => ?_)
        rw [eCE, eSE]
        refine lv_iload hx hb dX0_puts_581 (lv_at hl 0 rfl) ?_
        obtain rfl := Option.some.inj h
        rw [eQ]
        exact r_zret hx hb hr hlk hS (narB _) (Nat.le_of_ble_eq_true rfl) (Nat.le_of_ble_eq_true rfl) dX0_puts_583 ⟨_, rfl, rfl, h_x0r0, h_x0r0r0, h_x0r0r2, hF⟩
      clear eK17
      obtain ⟨K107, eK107, h⟩ := lt_step h
      have HK107 : ∀  (h : K107 () = some r) (H : Heap) (locs : List Loc) (hS : St D s H locs) (hF : Off (fun a => a = x0r0 ∨ a = x0r0r0 ∨ a = x0r0r2) s.heap H) (h_x0 : OA D 1 x0 [.ref x0r0] H) (h_x0r0 : ON D 0 x0r0 [.ref x0r0r0, .ref x0r0r1, .ref x0r0r2, .int v8, .int x0r0f4, .int x0r0f5, .int x0r0f6] H) (h_x0r0r0 : aD D x0r0r0 8 f6 H) (h_x0r0r1 : aD D x0r0r1 8 x0r0r1c H) (h_x0r0r2 : aZ D x0r0r2 8 f7 H) (had13 : ON D 3 ad13 [.ref ad14, .int 0, .int 0, .int 0] H) (had14 : aB D ad14 o12.1 o12.2 H) (ls : Array Slot) (hl : lv_has ls 13 [(0, .ref x0), (1, .int x1), (7, .ref ad13)]), W p l e R_X0_puts s m A below meth c H locs 837 8622 Q (F0 m 435 ls []) := by
        intro h H locs hS hF h_x0 h_x0r0 h_x0r0r0 h_x0r0r1 h_x0r0r2 had13 had14 ls hl
        subst eK107
        refine lv_iconst (v := 0) hx hb dX0_puts_435 (by decide) ?_
        exact HK17 false h H locs hS hF h_x0 h_x0r0 h_x0r0r0 h_x0r0r1 h_x0r0r2 had13 had14 ls (lv_sub hl [0, 1, 2] rfl)
      clear eK107
      refine r_ifz_eq (tgt := 435) hx hb dX0_puts_353 (by decide) (fun c108 => ?_) (fun c108 => ?_)
      · have h := it_neg h (by rw [c108]; decide)
        refine W.widen (k := 837) (n := 8622) (Nat.le_of_ble_eq_true rfl) (Nat.le_of_ble_eq_true rfl) ?_
        exact HK107  h H locs hS hF h_x0 h_x0r0 h_x0r0r0 h_x0r0r1 h_x0r0r2 had13 had14 ls (lv_sub hl [2, 3, 1] rfl)
      · have h := it_pos h (by rw [c108])
        refine lv_aload_n hx hb dX0_puts_356 rfl (lv_at hl 2 rfl) ?_
        refine lv_iload_n hx hb dX0_puts_357 rfl (lv_at hl 3 rfl) ?_
        obtain ⟨o109, eo109, h⟩ := bind_step h
        refine r_cl (r_runV (rest := []) (As := [.int x1]) hC 1 (m_X0_its x0 x0r0 x0r0r0 x0r0r1 x0r0r2  f6 x0r0r1c f7 v8 x0r0f4 x0r0f5 x0r0f6 x1 o109 eo109) q944 q946 qs10 q39 q947 (OA.recv hS h_x0 (C := RX0) rfl) hd_X0_its rfl ⟨Nat.le_of_ble_eq_true rfl, Nat.le_of_ble_eq_true rfl⟩ hS ⟨h_x0, h_x0r0, h_x0r0r0, h_x0r0r1, h_x0r0r2⟩ hl.1 rfl (Nat.le_of_ble_eq_true rfl) dX0_puts_358 ⟨Nat.le_of_ble_eq_true rfl, Nat.le_of_ble_eq_true rfl⟩) hS (fun b H locs hp hS hz => ?_)
        obtain ⟨eb_, hO⟩ := hp
        rw [eb_]
        have h_x0 := h_x0.ext hO
        have h_x0r0 := h_x0r0.ext hO
        have h_x0r0r0 := h_x0r0r0.ext hO
        have h_x0r0r1 := h_x0r0r1.ext hO
        have h_x0r0r2 := h_x0r0r2.ext hO
        have had13 := had13.ext hO
        have had14 := had14.ext hO
        have hF := hF.trans (hO.mono (fun _ _ z => z.elim))
        refine lv_lload hx hb dX0_puts_361 (lv_at hl 5 rfl) ?_
        obtain ⟨v110, ev110, h⟩ := lti_step h
        refine r_lcmp hx hb ev110 dX0_puts_363 ?_
        refine lv_if_ne (tgt := 435) hx hb dX0_puts_364 (by decide) (fun c111 => ?_) (fun c111 => ?_)
        · have h := it_neg h c111
          refine W.widen (k := 837) (n := 8622) (Nat.le_of_ble_eq_true rfl) (Nat.le_of_ble_eq_true rfl) ?_
          exact HK107  h H locs hS hF h_x0 h_x0r0 h_x0r0r0 h_x0r0r1 h_x0r0r2 had13 had14 ls (lv_sub hl [2, 3, 1] rfl)
        · have h := it_pos h c111
          refine lv_aload_n hx hb dX0_puts_367 rfl (lv_at hl 2 rfl) ?_
          refine r_get hx hb hts hown hS h_x0 rfl in_X0 0 (by decide) q936 rfl (v := .ref x0r0) rfl dX0_puts_368 ?_
          refine lv_iconst (v := 0) hx hb dX0_puts_371 (by decide) ?_
          obtain ⟨o112, eo112, h⟩ := bind_step h
          refine r_cp (r_runV (rest := []) (As := [.int 0]) hC 1 (m_X1_house x0r0 x0r0r0 x0r0r1 x0r0r2  f6 x0r0r1c f7 v8 x0r0f4 x0r0f5 x0r0f6 0 o112 eo112) q1248 q1249 q1250 q46 q1251 (OA.recv hS h_x0r0.OA (C := RX1) rfl) hd_X1_house rfl ⟨Nat.le_of_ble_eq_true rfl, Nat.le_of_ble_eq_true rfl⟩ hS ⟨h_x0r0, h_x0r0r0, h_x0r0r1, h_x0r0r2⟩ hl.1 rfl (Nat.le_of_ble_eq_true rfl) dX0_puts_372 ⟨Nat.le_of_ble_eq_true rfl, Nat.le_of_ble_eq_true rfl⟩) ?_
          refine lv_iload_n hx hb dX0_puts_375 rfl (lv_at hl 4 rfl) ?_
          refine lv_iconst (v := 3) hx hb dX0_puts_376 (by decide) ?_
          obtain ⟨v113, ev113, h⟩ := lti_step h
          refine r_iadd hx hb ev113 dX0_puts_377 ?_
          refine lv_icmp_ne (tgt := 435) hx hb dX0_puts_378 (by decide) (fun c114 => ?_) (fun c114 => ?_)
          · have h := it_neg h c114
            refine W.widen (k := 837) (n := 8622) (Nat.le_of_ble_eq_true rfl) (Nat.le_of_ble_eq_true rfl) ?_
            exact HK107  h H locs hS hF h_x0 h_x0r0 h_x0r0r0 h_x0r0r1 h_x0r0r2 had13 had14 ls (lv_sub hl [2, 3, 1] rfl)
          · have h := it_pos h c114
            refine lv_aload_n hx hb dX0_puts_381 rfl (lv_at hl 2 rfl) ?_
            refine r_get hx hb hts hown hS h_x0 rfl in_X0 0 (by decide) q936 rfl (v := .ref x0r0) rfl dX0_puts_382 ?_
            refine lv_iload_n hx hb dX0_puts_385 rfl (lv_at hl 3 rfl) ?_
            obtain ⟨o115, eo115, h⟩ := bind_step h
            refine r_cp (r_runV (rest := []) (As := [.int x1]) hC 1 (m_X1_angleUpper x0r0 x0r0r0 x0r0r1 x0r0r2  f6 x0r0r1c f7 v8 x0r0f4 x0r0f5 x0r0f6 x1 o115 eo115) q1190 q1191 q1192 q46 q1193 (OA.recv hS h_x0r0.OA (C := RX1) rfl) hd_X1_angleUpper rfl ⟨Nat.le_of_ble_eq_true rfl, Nat.le_of_ble_eq_true rfl⟩ hS ⟨h_x0r0, h_x0r0r0, h_x0r0r1, h_x0r0r2⟩ hl.1 rfl (Nat.le_of_ble_eq_true rfl) dX0_puts_386 ⟨Nat.le_of_ble_eq_true rfl, Nat.le_of_ble_eq_true rfl⟩) ?_
            refine lv_aload hx hb dX0_puts_389 (lv_at hl 1 rfl) ?_
            refine lv_iconst (v := 0) hx hb dX0_puts_391 (by decide) ?_
            obtain ⟨o116, eo116, h⟩ := bind_step h
            refine r_cl (r_runS (rest := [.int o115]) (As := [.ref ad13, .int 0]) hC 2 (m_X0_part ad13 ad14 0 0 o12.1 o12.2 0 o116 eo116) q1033 q1034 q39 q1035 hd_X0_part rfl ⟨Nat.le_of_ble_eq_true rfl, Nat.le_of_ble_eq_true rfl⟩ hS ⟨had13.OA, had14, lo12_1⟩ hl.1 rfl (Nat.le_of_ble_eq_true rfl) dX0_puts_392 ⟨Nat.le_of_ble_eq_true rfl, Nat.le_of_ble_eq_true rfl⟩) hS (fun b H locs hp hS hz => ?_)
            obtain ⟨eb_, hO⟩ := hp
            rw [eb_]
            have h_x0 := h_x0.ext hO
            have h_x0r0 := h_x0r0.ext hO
            have h_x0r0r0 := h_x0r0r0.ext hO
            have h_x0r0r1 := h_x0r0r1.ext hO
            have h_x0r0r2 := h_x0r0r2.ext hO
            have had13 := had13.ext hO
            have had14 := had14.ext hO
            have hF := hF.trans (hO.mono (fun _ _ z => z.elim))
            obtain ⟨v117, ev117, h⟩ := lti_step h
            refine r_l2i hx hb ev117 dX0_puts_395 ?_
            refine lv_bipush (v := 31) hx hb dX0_puts_396 (by decide) ?_
            obtain ⟨v118, ev118, h⟩ := lti_step h
            refine r_ishl hx hb ev118 dX0_puts_398 ?_
            refine lv_aload hx hb dX0_puts_399 (lv_at hl 1 rfl) ?_
            refine lv_iconst (v := 1) hx hb dX0_puts_401 (by decide) ?_
            obtain ⟨o119, eo119, h⟩ := bind_step h
            refine r_cl (r_runS (rest := [.int v118, .int o115]) (As := [.ref ad13, .int 1]) hC 2 (m_X0_part ad13 ad14 0 0 o12.1 o12.2 1 o119 eo119) q1033 q1034 q39 q1035 hd_X0_part rfl ⟨Nat.le_of_ble_eq_true rfl, Nat.le_of_ble_eq_true rfl⟩ hS ⟨had13.OA, had14, lo12_1⟩ hl.1 rfl (Nat.le_of_ble_eq_true rfl) dX0_puts_402 ⟨Nat.le_of_ble_eq_true rfl, Nat.le_of_ble_eq_true rfl⟩) hS (fun b H locs hp hS hz => ?_)
            obtain ⟨eb_, hO⟩ := hp
            rw [eb_]
            have h_x0 := h_x0.ext hO
            have h_x0r0 := h_x0r0.ext hO
            have h_x0r0r0 := h_x0r0r0.ext hO
            have h_x0r0r1 := h_x0r0r1.ext hO
            have h_x0r0r2 := h_x0r0r2.ext hO
            have had13 := had13.ext hO
            have had14 := had14.ext hO
            have hF := hF.trans (hO.mono (fun _ _ z => z.elim))
            obtain ⟨v120, ev120, h⟩ := lti_step h
            refine r_l2i hx hb ev120 dX0_puts_405 ?_
            refine lv_bipush (v := 20) hx hb dX0_puts_406 (by decide) ?_
            obtain ⟨v121, ev121, h⟩ := lti_step h
            refine r_ishl hx hb ev121 dX0_puts_408 ?_
            obtain ⟨v122, ev122, h⟩ := lti_step h
            refine r_ior hx hb ev122 dX0_puts_409 ?_
            refine lv_lload hx hb dX0_puts_410 (lv_at hl 0 rfl) ?_
            refine lv_bipush (v := 32) hx hb dX0_puts_412 (by decide) ?_
            obtain ⟨v123, ev123, h⟩ := ltl_step h
            refine r_lshr hx hb ev123 dX0_puts_414 ?_
            obtain ⟨v124, ev124, h⟩ := lti_step h
            refine r_l2i hx hb ev124 dX0_puts_415 ?_
            obtain ⟨v125, ev125, h⟩ := lti_step h
            refine r_ior hx hb ev125 dX0_puts_416 ?_
            refine lv_icmp_ne (tgt := 435) hx hb dX0_puts_417 (by decide) (fun c126 => ?_) (fun c126 => ?_)
            · have h := it_neg h c126
              exact HK107  h H locs hS hF h_x0 h_x0r0 h_x0r0r0 h_x0r0r1 h_x0r0r2 had13 had14 ls (lv_sub hl [2, 3, 1] rfl)
            · have h := it_pos h c126
              refine lv_lload hx hb dX0_puts_420 (lv_at hl 0 rfl) ?_
              refine lv_ldc2 hx hb (v := 4294967295) hown (hts _ q1507) dX0_puts_422 ?_
              obtain ⟨v127, ev127, h⟩ := ltl_step h
              refine r_land hx hb ev127 dX0_puts_425 ?_
              refine lv_lconst (v := 0) hx hb dX0_puts_426 rfl ?_
              obtain ⟨v128, ev128, h⟩ := lti_step h
              refine r_lcmp hx hb ev128 dX0_puts_427 ?_
              refine lv_if_ne (tgt := 435) hx hb dX0_puts_428 (by decide) (fun c129 => ?_) (fun c129 => ?_)
              · have h := it_neg h c129
                exact HK107  h H locs hS hF h_x0 h_x0r0 h_x0r0r0 h_x0r0r1 h_x0r0r2 had13 had14 ls (lv_sub hl [2, 3, 1] rfl)
              · have h := it_pos h c129
                refine lv_iconst (v := 1) hx hb dX0_puts_431 (by decide) ?_
                refine lv_goto (tgt := 436) hx hb dX0_puts_432 (by decide) ?_
                exact HK17 true h H locs hS hF h_x0 h_x0r0 h_x0r0r0 h_x0r0r1 h_x0r0r2 had13 had14 ls (lv_sub hl [2, 3, 1] rfl)
    clear eK11
    refine lv_if_ne (tgt := 199) hx hb dX0_puts_44 (by decide) (fun c130 => ?_) (fun c130 => ?_)
    · have h := it_neg h c130
      refine lv_iload_n hx hb dX0_puts_199 rfl (lv_at hl 3 rfl) ?_
      refine lv_bipush (v := 7) hx hb dX0_puts_200 (by decide) ?_
      obtain ⟨v131, ev131, h⟩ := lti_step h
      refine r_iand hx hb ev131 dX0_puts_202 ?_
      refine lv_bipush (v := 7) hx hb dX0_puts_203 (by decide) ?_
      obtain ⟨K133, eK133, h⟩ := lt_step h
      have HK133 : ∀ (v132 : Int32) (h : K133 v132 = some r) (H : Heap) (locs : List Loc) (hS : St D s H locs) (hF : Off (fun a => a = x0r0 ∨ a = x0r0r0 ∨ a = x0r0r2) s.heap H) (h_x0 : OA D 1 x0 [.ref x0r0] H) (h_x0r0 : ON D 0 x0r0 [.ref x0r0r0, .ref x0r0r1, .ref x0r0r2, .int o2.2.1, .int x0r0f4, .int x0r0f5, .int x0r0f6] H) (h_x0r0r0 : aD D x0r0r0 8 o2.2.2.1 H) (h_x0r0r1 : aD D x0r0r1 8 x0r0r1c H) (h_x0r0r2 : aZ D x0r0r2 8 o2.2.2.2 H) (ls : Array Slot) (hl : lv_has ls 13 [(0, .ref x0), (1, .int x1), (3, .int o1), (6, .int (bI v3))]), W p l e R_X0_puts s m A below meth c H locs 279 2874 Q (F0 m 262 ls [.int v132]) := by
        intro v132 h H locs hS hF h_x0 h_x0r0 h_x0r0r0 h_x0r0r1 h_x0r0r2 ls hl
        subst eK133
        refine lv_istore (lv' := [(7, .int v132), (0, .ref x0), (1, .int x1), (3, .int o1), (6, .int (bI v3))]) hx hb dX0_puts_262 hl (by decide) rfl (fun ls hl => ?_)
        refine lv_iload hx hb dX0_puts_264 (lv_at hl 0 rfl) ?_
        obtain ⟨v134, ev134, h⟩ := ltl_step h
        refine r_i2l hx hb ev134 dX0_puts_266 ?_
        refine lv_lstore (lv' := [(4, .long v134), (7, .int v132), (0, .ref x0), (1, .int x1), (3, .int o1), (6, .int (bI v3))]) hx hb dX0_puts_267 hl (by decide) rfl (fun ls hl => ?_)
        refine lv_iload hx hb dX0_puts_269 (lv_at hl 5 rfl) ?_
        obtain ⟨K139, eK139, h⟩ := lt_step h
        have HK139 : ∀ (f135 : Nat → UInt64) (f136 : Nat → Int32) (v137 : Int32) (v138 : Bool) (h : K139 f135 f136 v137 v138 = some r) (H : Heap) (locs : List Loc) (hS : St D s H locs) (hF : Off (fun a => a = x0r0 ∨ a = x0r0r0 ∨ a = x0r0r2) s.heap H) (h_x0 : OA D 1 x0 [.ref x0r0] H) (h_x0r0 : ON D 0 x0r0 [.ref x0r0r0, .ref x0r0r1, .ref x0r0r2, .int v137, .int x0r0f4, .int x0r0f5, .int x0r0f6] H) (h_x0r0r0 : aD D x0r0r0 8 f135 H) (h_x0r0r1 : aD D x0r0r1 8 x0r0r1c H) (h_x0r0r2 : aZ D x0r0r2 8 f136 H) (ls : Array Slot) (hl : lv_has ls 13 [(0, .ref x0), (1, .int x1), (3, .int o1), (4, .long v134)]), W p l e R_X0_puts s m A below meth c H locs 815 8102 Q (F0 m 331 ls [.int (bI v138)]) := by
          intro f135 f136 v137 v138 h H locs hS hF h_x0 h_x0r0 h_x0r0r0 h_x0r0r1 h_x0r0r2 ls hl
          subst eK139
          refine lv_istore (lv' := [(6, .int (bI v138)), (0, .ref x0), (1, .int x1), (3, .int o1), (4, .long v134)]) hx hb dX0_puts_331 hl (by decide) rfl (fun ls hl => ?_)
          exact HK11 f135 f136 v137 v134 v138 h H locs hS hF h_x0 h_x0r0 h_x0r0r0 h_x0r0r1 h_x0r0r2 ls (lv_sub hl [1, 2, 3, 4, 0] rfl)
        clear eK139
        obtain ⟨K143, eK143, h⟩ := lt_step h
        have HK143 : ∀ (f140 : Nat → UInt64) (f141 : Nat → Int32) (v142 : Int32) (h : K143 f140 f141 v142 = some r) (H : Heap) (locs : List Loc) (hS : St D s H locs) (hF : Off (fun a => a = x0r0 ∨ a = x0r0r0 ∨ a = x0r0r2) s.heap H) (h_x0 : OA D 1 x0 [.ref x0r0] H) (h_x0r0 : ON D 0 x0r0 [.ref x0r0r0, .ref x0r0r1, .ref x0r0r2, .int v142, .int x0r0f4, .int x0r0f5, .int x0r0f6] H) (h_x0r0r0 : aD D x0r0r0 8 f140 H) (h_x0r0r1 : aD D x0r0r1 8 x0r0r1c H) (h_x0r0r2 : aZ D x0r0r2 8 f141 H) (ls : Array Slot) (hl : lv_has ls 13 [(0, .ref x0), (1, .int x1), (3, .int o1), (4, .long v134)]), W p l e R_X0_puts s m A below meth c H locs 815 8102 Q (F0 m 330 ls []) := by
          intro f140 f141 v142 h H locs hS hF h_x0 h_x0r0 h_x0r0r0 h_x0r0r1 h_x0r0r2 ls hl
          subst eK143
          refine lv_iconst (v := 0) hx hb dX0_puts_330 (by decide) ?_
          exact HK139 f140 f141 v142 false h H locs hS hF h_x0 h_x0r0 h_x0r0r0 h_x0r0r1 h_x0r0r2 ls (lv_sub hl [0, 1, 2, 3] rfl)
        clear eK143
        refine r_ifz_eq (tgt := 330) hx hb dX0_puts_271 (by decide) (fun c144 => ?_) (fun c144 => ?_)
        · have h := it_neg h (by rw [c144]; decide)
          refine W.widen (k := 815) (n := 8102) (Nat.le_of_ble_eq_true rfl) (Nat.le_of_ble_eq_true rfl) ?_
          exact HK143 o2.2.2.1 o2.2.2.2 o2.2.1 h H locs hS hF h_x0 h_x0r0 h_x0r0r0 h_x0r0r1 h_x0r0r2 ls (lv_sub hl [2, 3, 4, 0] rfl)
        · have h := it_pos h (by rw [c144])
          refine lv_aload_n hx hb dX0_puts_274 rfl (lv_at hl 2 rfl) ?_
          refine r_get hx hb hts hown hS h_x0 rfl in_X0 0 (by decide) q936 rfl (v := .ref x0r0) rfl dX0_puts_275 ?_
          refine lv_iload_n hx hb dX0_puts_278 rfl (lv_at hl 3 rfl) ?_
          refine lv_iload hx hb dX0_puts_279 (lv_at hl 1 rfl) ?_
          obtain ⟨o145, eo145, h⟩ := bind_step h
          refine r_ci (r_runV (rest := []) (As := [.int x1, .int v132]) hC 2 (m_X1_eighths x0r0 x0r0r0 x0r0r1 x0r0r2  o2.2.2.1 x0r0r1c o2.2.2.2 o2.2.1 x0r0f4 x0r0f5 x0r0f6 x1 v132 o145 eo145) q1348 q1349 q1350 q46 q1351 (OA.recv hS h_x0r0.OA (C := RX1) rfl) hd_X1_eighths rfl ⟨Nat.le_of_ble_eq_true rfl, Nat.le_of_ble_eq_true rfl⟩ hS ⟨h_x0r0, hB_h_x0r0, h_x0r0r0, hB_h_x0r0r0, h_x0r0r1, h_x0r0r2, hB_h_x0r0r2, ne_x0r0_x0r0r0, ne_x0r0_x0r0r1, ne_x0r0_x0r0r2, ne_x0r0r0_x0r0r1, ne_x0r0r0_x0r0r2, ne_x0r0r1_x0r0r2⟩ hl.1 rfl (Nat.le_of_ble_eq_true rfl) dX0_puts_281 ⟨Nat.le_of_ble_eq_true rfl, Nat.le_of_ble_eq_true rfl⟩) hS (fun b H locs hp hS hz => ?_)
          obtain ⟨rfl, h_x0r0, h_x0r0r0, h_x0r0r2, hO⟩ := hp
          have h_x0 := h_x0.off hO (fun z => by rcases z with z | z | z <;> first | exact ne_x0_x0r0 z | exact ne_x0_x0r0r0 z | exact ne_x0_x0r0r2 z)
          have h_x0r0r1 := h_x0r0r1.off hO (fun z => by rcases z with z | z | z <;> first | exact (Ne.symm ne_x0r0_x0r0r1) z | exact (Ne.symm ne_x0r0r0_x0r0r1) z | exact ne_x0r0r1_x0r0r2 z)
          have hF := hF.fresh hO (fun a ha z => by
            rcases z with z | z | z
            · exact Or.inl z
            · exact Or.inr (Or.inl z)
            · exact Or.inr (Or.inr (z)))
          refine lv_iconst (v := 1) hx hb dX0_puts_284 (by decide) ?_
          refine lv_icmp_ne (tgt := 330) hx hb dX0_puts_285 (by decide) (fun c146 => ?_) (fun c146 => ?_)
          · have h := it_neg h c146
            refine W.widen (k := 815) (n := 8102) (Nat.le_of_ble_eq_true rfl) (Nat.le_of_ble_eq_true rfl) ?_
            exact HK143 o145.2.2.1 o145.2.2.2 o145.2.1 h H locs hS hF h_x0 h_x0r0 h_x0r0r0 h_x0r0r1 h_x0r0r2 ls (lv_sub hl [2, 3, 4, 0] rfl)
          · have h := it_pos h c146
            refine lv_aload_n hx hb dX0_puts_288 rfl (lv_at hl 2 rfl) ?_
            refine r_get hx hb hts hown hS h_x0 rfl in_X0 0 (by decide) q936 rfl (v := .ref x0r0) rfl dX0_puts_289 ?_
            refine lv_iload_n hx hb dX0_puts_292 rfl (lv_at hl 3 rfl) ?_
            refine lv_iload hx hb dX0_puts_293 (lv_at hl 1 rfl) ?_
            obtain ⟨o147, eo147, h⟩ := bind_step h
            refine r_ci (r_runV (rest := []) (As := [.int x1, .int v132]) hC 2 (m_X1_eighths x0r0 x0r0r0 x0r0r1 x0r0r2  o145.2.2.1 x0r0r1c o145.2.2.2 o145.2.1 x0r0f4 x0r0f5 x0r0f6 x1 v132 o147 eo147) q1348 q1349 q1350 q46 q1351 (OA.recv hS h_x0r0.OA (C := RX1) rfl) hd_X1_eighths rfl ⟨Nat.le_of_ble_eq_true rfl, Nat.le_of_ble_eq_true rfl⟩ hS ⟨h_x0r0, hB_h_x0r0, h_x0r0r0, hB_h_x0r0r0, h_x0r0r1, h_x0r0r2, hB_h_x0r0r2, ne_x0r0_x0r0r0, ne_x0r0_x0r0r1, ne_x0r0_x0r0r2, ne_x0r0r0_x0r0r1, ne_x0r0r0_x0r0r2, ne_x0r0r1_x0r0r2⟩ hl.1 rfl (Nat.le_of_ble_eq_true rfl) dX0_puts_295 ⟨Nat.le_of_ble_eq_true rfl, Nat.le_of_ble_eq_true rfl⟩) hS (fun b H locs hp hS hz => ?_)
            obtain ⟨rfl, h_x0r0, h_x0r0r0, h_x0r0r2, hO⟩ := hp
            have h_x0 := h_x0.off hO (fun z => by rcases z with z | z | z <;> first | exact ne_x0_x0r0 z | exact ne_x0_x0r0r0 z | exact ne_x0_x0r0r2 z)
            have h_x0r0r1 := h_x0r0r1.off hO (fun z => by rcases z with z | z | z <;> first | exact (Ne.symm ne_x0r0_x0r0r1) z | exact (Ne.symm ne_x0r0r0_x0r0r1) z | exact ne_x0r0r1_x0r0r2 z)
            have hF := hF.fresh hO (fun a ha z => by
              rcases z with z | z | z
              · exact Or.inl z
              · exact Or.inr (Or.inl z)
              · exact Or.inr (Or.inr (z)))
            refine lv_if_ne (tgt := 330) hx hb dX0_puts_298 (by decide) (fun c148 => ?_) (fun c148 => ?_)
            · have h := it_neg h c148
              exact HK143 o147.2.2.1 o147.2.2.2 o147.2.1 h H locs hS hF h_x0 h_x0r0 h_x0r0r0 h_x0r0r1 h_x0r0r2 ls (lv_sub hl [2, 3, 4, 0] rfl)
            · have h := it_pos h c148
              refine lv_aload_n hx hb dX0_puts_301 rfl (lv_at hl 2 rfl) ?_
              refine r_get hx hb hts hown hS h_x0 rfl in_X0 0 (by decide) q936 rfl (v := .ref x0r0) rfl dX0_puts_302 ?_
              refine lv_iload_n hx hb dX0_puts_305 rfl (lv_at hl 3 rfl) ?_
              obtain ⟨o149, eo149, h⟩ := bind_step h
              refine r_cp (r_runV (rest := []) (As := [.int x1]) hC 1 (m_X1_angleDoublings x0r0 x0r0r0 x0r0r1 x0r0r2  o147.2.2.1 x0r0r1c o147.2.2.2 o147.2.1 x0r0f4 x0r0f5 x0r0f6 x1 o149 eo149) q1497 q1498 q1499 q46 q1500 (OA.recv hS h_x0r0.OA (C := RX1) rfl) hd_X1_angleDoublings rfl ⟨Nat.le_of_ble_eq_true rfl, Nat.le_of_ble_eq_true rfl⟩ hS ⟨h_x0r0, h_x0r0r0, h_x0r0r1, h_x0r0r2⟩ hl.1 rfl (Nat.le_of_ble_eq_true rfl) dX0_puts_306 ⟨Nat.le_of_ble_eq_true rfl, Nat.le_of_ble_eq_true rfl⟩) ?_
              refine lv_iconst (v := (-1)) hx hb dX0_puts_309 (by decide) ?_
              refine lv_icmp_ne (tgt := 330) hx hb dX0_puts_310 (by decide) (fun c150 => ?_) (fun c150 => ?_)
              · have h := it_neg h c150
                exact HK143 o147.2.2.1 o147.2.2.2 o147.2.1 h H locs hS hF h_x0 h_x0r0 h_x0r0r0 h_x0r0r1 h_x0r0r2 ls (lv_sub hl [2, 3, 4, 0] rfl)
              · have h := it_pos h c150
                refine lv_aload_n hx hb dX0_puts_313 rfl (lv_at hl 2 rfl) ?_
                refine r_get hx hb hts hown hS h_x0 rfl in_X0 0 (by decide) q936 rfl (v := .ref x0r0) rfl dX0_puts_314 ?_
                refine lv_iload_n hx hb dX0_puts_317 rfl (lv_at hl 3 rfl) ?_
                obtain ⟨o151, eo151, h⟩ := bind_step h
                refine r_cp (r_runV (rest := []) (As := [.int x1]) hC 1 (m_X1_angleEighths x0r0 x0r0r0 x0r0r1 x0r0r2  o147.2.2.1 x0r0r1c o147.2.2.2 o147.2.1 x0r0f4 x0r0f5 x0r0f6 x1 o151 eo151) q1501 q1502 q1503 q46 q1504 (OA.recv hS h_x0r0.OA (C := RX1) rfl) hd_X1_angleEighths rfl ⟨Nat.le_of_ble_eq_true rfl, Nat.le_of_ble_eq_true rfl⟩ hS ⟨h_x0r0, h_x0r0r0, h_x0r0r1, h_x0r0r2⟩ hl.1 rfl (Nat.le_of_ble_eq_true rfl) dX0_puts_318 ⟨Nat.le_of_ble_eq_true rfl, Nat.le_of_ble_eq_true rfl⟩) ?_
                refine lv_iload hx hb dX0_puts_321 (lv_at hl 1 rfl) ?_
                refine lv_icmp_ne (tgt := 330) hx hb dX0_puts_323 (by decide) (fun c152 => ?_) (fun c152 => ?_)
                · have h := it_neg h c152
                  exact HK143 o147.2.2.1 o147.2.2.2 o147.2.1 h H locs hS hF h_x0 h_x0r0 h_x0r0r0 h_x0r0r1 h_x0r0r2 ls (lv_sub hl [2, 3, 4, 0] rfl)
                · have h := it_pos h c152
                  refine lv_iconst (v := 1) hx hb dX0_puts_326 (by decide) ?_
                  refine lv_goto (tgt := 331) hx hb dX0_puts_327 (by decide) ?_
                  exact HK139 o147.2.2.1 o147.2.2.2 o147.2.1 true h H locs hS hF h_x0 h_x0r0 h_x0r0r0 h_x0r0r1 h_x0r0r2 ls (lv_sub hl [2, 3, 4, 0] rfl)
      clear eK133
      refine lv_icmp_ne (tgt := 226) hx hb dX0_puts_205 (by decide) (fun c153 => ?_) (fun c153 => ?_)
      · have h := it_neg h c153
        refine lv_iload_n hx hb dX0_puts_226 rfl (lv_at hl 3 rfl) ?_
        refine lv_iconst (v := 3) hx hb dX0_puts_227 (by decide) ?_
        obtain ⟨v154, ev154, h⟩ := lti_step h
        refine r_ishr hx hb ev154 dX0_puts_228 ?_
        refine lv_iload_n hx hb dX0_puts_229 rfl (lv_at hl 3 rfl) ?_
        refine lv_iconst (v := 3) hx hb dX0_puts_230 (by decide) ?_
        obtain ⟨v155, ev155, h⟩ := lti_step h
        refine r_iand hx hb ev155 dX0_puts_231 ?_
        refine lv_iconst (v := 1) hx hb dX0_puts_232 (by decide) ?_
        obtain ⟨K157, eK157, h⟩ := lt_step h
        have HK157 : ∀ (v156 : Int32) (h : K157 v156 = some r) (H : Heap) (locs : List Loc) (hS : St D s H locs) (hF : Off (fun a => a = x0r0 ∨ a = x0r0r0 ∨ a = x0r0r2) s.heap H) (h_x0 : OA D 1 x0 [.ref x0r0] H) (h_x0r0 : ON D 0 x0r0 [.ref x0r0r0, .ref x0r0r1, .ref x0r0r2, .int o2.2.1, .int x0r0f4, .int x0r0f5, .int x0r0f6] H) (h_x0r0r0 : aD D x0r0r0 8 o2.2.2.1 H) (h_x0r0r1 : aD D x0r0r1 8 x0r0r1c H) (h_x0r0r2 : aZ D x0r0r2 8 o2.2.2.2 H) (ls : Array Slot) (hl : lv_has ls 13 [(0, .ref x0), (1, .int x1), (2, .int x2), (3, .int o1), (6, .int (bI v3))]), W p l e R_X0_puts s m A below meth c H locs 279 2874 Q (F0 m 244 ls [.int v156, .int v154]) := by
          intro v156 h H locs hS hF h_x0 h_x0r0 h_x0r0r0 h_x0r0r1 h_x0r0r2 ls hl
          subst eK157
          obtain ⟨o158, eo158, h⟩ := bind_step h
          refine r_cp (r_runS (rest := []) (As := [.int v154, .int v156]) hC 2 (m_X0_some   v154 v156 o158 eo158) q1244 q1245 q39 q1246 hd_X0_some rfl ⟨Nat.le_of_ble_eq_true rfl, Nat.le_of_ble_eq_true rfl⟩ hS trivial hl.1 rfl (Nat.le_of_ble_eq_true rfl) dX0_puts_244 ⟨Nat.le_of_ble_eq_true rfl, Nat.le_of_ble_eq_true rfl⟩) ?_
          refine lv_iload_n hx hb dX0_puts_247 rfl (lv_at hl 2 rfl) ?_
          refine lv_iconst (v := 3) hx hb dX0_puts_248 (by decide) ?_
          obtain ⟨v159, ev159, h⟩ := lti_step h
          refine r_iand hx hb ev159 dX0_puts_249 ?_
          refine lv_iconst (v := 1) hx hb dX0_puts_250 (by decide) ?_
          obtain ⟨K161, eK161, h⟩ := lt_step h
          have HK161 : ∀ (v160 : Int32) (h : K161 v160 = some r) (H : Heap) (locs : List Loc) (hS : St D s H locs) (hF : Off (fun a => a = x0r0 ∨ a = x0r0r0 ∨ a = x0r0r2) s.heap H) (h_x0 : OA D 1 x0 [.ref x0r0] H) (h_x0r0 : ON D 0 x0r0 [.ref x0r0r0, .ref x0r0r1, .ref x0r0r2, .int o2.2.1, .int x0r0f4, .int x0r0f5, .int x0r0f6] H) (h_x0r0r0 : aD D x0r0r0 8 o2.2.2.1 H) (h_x0r0r1 : aD D x0r0r1 8 x0r0r1c H) (h_x0r0r2 : aZ D x0r0r2 8 o2.2.2.2 H) (ls : Array Slot) (hl : lv_has ls 13 [(0, .ref x0), (1, .int x1), (3, .int o1), (6, .int (bI v3))]), W p l e R_X0_puts s m A below meth c H locs 279 2874 Q (F0 m 261 ls [.int v160, .int o158]) := by
            intro v160 h H locs hS hF h_x0 h_x0r0 h_x0r0r0 h_x0r0r1 h_x0r0r2 ls hl
            subst eK161
            obtain ⟨v162, ev162, h⟩ := lti_step h
            refine r_isub hx hb ev162 dX0_puts_261 ?_
            exact HK133 v162 h H locs hS hF h_x0 h_x0r0 h_x0r0r0 h_x0r0r1 h_x0r0r2 ls (lv_sub hl [0, 1, 2, 3] rfl)
          clear eK161
          refine lv_icmp_ne (tgt := 259) hx hb dX0_puts_251 (by decide) (fun c163 => ?_) (fun c163 => ?_)
          · have h := it_neg h c163
            refine lv_ldc hx hb (v := 32768) hown (hts _ q1385) dX0_puts_259 ?_
            exact HK161 32768 h H locs hS hF h_x0 h_x0r0 h_x0r0r0 h_x0r0r1 h_x0r0r2 ls (lv_sub hl [0, 1, 3, 4] rfl)
          · have h := it_pos h c163
            refine lv_bipush (v := 100) hx hb dX0_puts_254 (by decide) ?_
            refine lv_goto (tgt := 261) hx hb dX0_puts_256 (by decide) ?_
            exact HK161 100 h H locs hS hF h_x0 h_x0r0 h_x0r0r0 h_x0r0r1 h_x0r0r2 ls (lv_sub hl [0, 1, 3, 4] rfl)
        clear eK157
        refine lv_icmp_ne (tgt := 242) hx hb dX0_puts_233 (by decide) (fun c164 => ?_) (fun c164 => ?_)
        · have h := it_neg h c164
          refine lv_ldc hx hb (v := 65537) hown (hts _ q1506) dX0_puts_242 ?_
          exact HK157 65537 h H locs hS hF h_x0 h_x0r0 h_x0r0r0 h_x0r0r1 h_x0r0r2 ls (lv_sub hl [1, 2, 3, 4, 0] rfl)
        · have h := it_pos h c164
          refine lv_sipush (v := 200) hx hb dX0_puts_236 (by decide) ?_
          refine lv_goto (tgt := 244) hx hb dX0_puts_239 (by decide) ?_
          exact HK157 200 h H locs hS hF h_x0 h_x0r0 h_x0r0r0 h_x0r0r1 h_x0r0r2 ls (lv_sub hl [1, 2, 3, 4, 0] rfl)
      · have h := it_pos h c153
        refine lv_sipush (v := 2048) hx hb dX0_puts_208 (by decide) ?_
        refine lv_iload_n hx hb dX0_puts_211 rfl (lv_at hl 3 rfl) ?_
        refine lv_iconst (v := 3) hx hb dX0_puts_212 (by decide) ?_
        obtain ⟨v165, ev165, h⟩ := lti_step h
        refine r_ishr hx hb ev165 dX0_puts_213 ?_
        refine lv_bipush (v := 33) hx hb dX0_puts_214 (by decide) ?_
        obtain ⟨o166, eo166, h⟩ := bind_step h
        refine r_cp (r_runS (rest := [.int 2048]) (As := [.int v165, .int 33]) hC 2 (m_X0_some   v165 33 o166 eo166) q1244 q1245 q39 q1246 hd_X0_some rfl ⟨Nat.le_of_ble_eq_true rfl, Nat.le_of_ble_eq_true rfl⟩ hS trivial hl.1 rfl (Nat.le_of_ble_eq_true rfl) dX0_puts_216 ⟨Nat.le_of_ble_eq_true rfl, Nat.le_of_ble_eq_true rfl⟩) ?_
        refine lv_bipush (v := 16) hx hb dX0_puts_219 (by decide) ?_
        obtain ⟨v167, ev167, h⟩ := lti_step h
        refine r_isub hx hb ev167 dX0_puts_221 ?_
        obtain ⟨v168, ev168, h⟩ := lti_step h
        refine r_imul hx hb ev168 dX0_puts_222 ?_
        refine lv_goto (tgt := 262) hx hb dX0_puts_223 (by decide) ?_
        exact HK133 v168 h H locs hS hF h_x0 h_x0r0 h_x0r0r0 h_x0r0r1 h_x0r0r2 ls (lv_sub hl [1, 2, 4, 0] rfl)
    · have h := it_pos h c130
      refine lv_bipush (v := 33) hx hb dX0_puts_47 (by decide) ?_
      refine lv_iload_n hx hb dX0_puts_49 rfl (lv_at hl 3 rfl) ?_
      refine lv_iconst (v := 4) hx hb dX0_puts_50 (by decide) ?_
      obtain ⟨v169, ev169, h⟩ := lti_step h
      refine r_ishr hx hb ev169 dX0_puts_51 ?_
      refine lv_bipush (v := 32) hx hb dX0_puts_52 (by decide) ?_
      obtain ⟨o170, eo170, h⟩ := bind_step h
      refine r_cp (r_runS (rest := [.int 33]) (As := [.int v169, .int 32]) hC 2 (m_X0_some   v169 32 o170 eo170) q1244 q1245 q39 q1246 hd_X0_some rfl ⟨Nat.le_of_ble_eq_true rfl, Nat.le_of_ble_eq_true rfl⟩ hS trivial hl.1 rfl (Nat.le_of_ble_eq_true rfl) dX0_puts_54 ⟨Nat.le_of_ble_eq_true rfl, Nat.le_of_ble_eq_true rfl⟩) ?_
      obtain ⟨v171, ev171, h⟩ := lti_step h
      refine r_iadd hx hb ev171 dX0_puts_57 ?_
      refine lv_istore (lv' := [(7, .int v171), (6, .int (bI v3)), (0, .ref x0), (1, .int x1), (2, .int x2), (3, .int o1)]) hx hb dX0_puts_58 hl (by decide) rfl (fun ls hl => ?_)
      refine lv_bipush (v := 8) hx hb dX0_puts_60 (by decide) ?_
      refine lv_iload_n hx hb dX0_puts_62 rfl (lv_at hl 4 rfl) ?_
      refine lv_bipush (v := 10) hx hb dX0_puts_63 (by decide) ?_
      obtain ⟨v172, ev172, h⟩ := lti_step h
      refine r_ishr hx hb ev172 dX0_puts_65 ?_
      refine lv_bipush (v := 37) hx hb dX0_puts_66 (by decide) ?_
      obtain ⟨o173, eo173, h⟩ := bind_step h
      refine r_cp (r_runS (rest := [.int 8]) (As := [.int v172, .int 37]) hC 2 (m_X0_some   v172 37 o173 eo173) q1244 q1245 q39 q1246 hd_X0_some rfl ⟨Nat.le_of_ble_eq_true rfl, Nat.le_of_ble_eq_true rfl⟩ hS trivial hl.1 rfl (Nat.le_of_ble_eq_true rfl) dX0_puts_68 ⟨Nat.le_of_ble_eq_true rfl, Nat.le_of_ble_eq_true rfl⟩) ?_
      obtain ⟨v174, ev174, h⟩ := lti_step h
      refine r_iadd hx hb ev174 dX0_puts_71 ?_
      refine lv_istore (lv' := [(8, .int v174), (7, .int v171), (6, .int (bI v3)), (0, .ref x0), (1, .int x1), (2, .int x2), (3, .int o1)]) hx hb dX0_puts_72 hl (by decide) rfl (fun ls hl => ?_)
      refine lv_iload_n hx hb dX0_puts_74 rfl (lv_at hl 5 rfl) ?_
      refine lv_bipush (v := 8) hx hb dX0_puts_75 (by decide) ?_
      obtain ⟨v175, ev175, h⟩ := lti_step h
      refine r_iand hx hb ev175 dX0_puts_77 ?_
      obtain ⟨K177, eK177, h⟩ := lt_step h
      have HK177 : ∀ (v176 : Bool) (h : K177 v176 = some r) (H : Heap) (locs : List Loc) (hS : St D s H locs) (hF : Off (fun a => a = x0r0 ∨ a = x0r0r0 ∨ a = x0r0r2) s.heap H) (h_x0 : OA D 1 x0 [.ref x0r0] H) (h_x0r0 : ON D 0 x0r0 [.ref x0r0r0, .ref x0r0r1, .ref x0r0r2, .int o2.2.1, .int x0r0f4, .int x0r0f5, .int x0r0f6] H) (h_x0r0r0 : aD D x0r0r0 8 o2.2.2.1 H) (h_x0r0r1 : aD D x0r0r1 8 x0r0r1c H) (h_x0r0r2 : aZ D x0r0r2 8 o2.2.2.2 H) (ls : Array Slot) (hl : lv_has ls 13 [(0, .ref x0), (1, .int x1), (3, .int o1), (6, .int (bI v3)), (7, .int v171), (8, .int v174)]), W p l e R_X0_puts s m A below meth c H locs 279 2874 Q (F0 m 86 ls [.int (bI v176)]) := by
        intro v176 h H locs hS hF h_x0 h_x0r0 h_x0r0r0 h_x0r0r1 h_x0r0r2 ls hl
        subst eK177
        refine lv_istore (lv' := [(9, .int (bI v176)), (0, .ref x0), (1, .int x1), (3, .int o1), (6, .int (bI v3)), (7, .int v171), (8, .int v174)]) hx hb dX0_puts_86 hl (by decide) rfl (fun ls hl => ?_)
        refine lv_iload hx hb dX0_puts_88 (lv_at hl 5 rfl) ?_
        obtain ⟨v178, ev178, h⟩ := ltl_step h
        refine r_i2l hx hb ev178 dX0_puts_90 ?_
        refine lv_iload hx hb dX0_puts_91 (lv_at hl 6 rfl) ?_
        refine lv_iconst (v := 3) hx hb dX0_puts_93 (by decide) ?_
        obtain ⟨v179, ev179, h⟩ := lti_step h
        refine r_iadd hx hb ev179 dX0_puts_94 ?_
        obtain ⟨v180, ev180, h⟩ := ltl_step h
        refine r_lshl hx hb ev180 dX0_puts_95 ?_
        refine lv_iload hx hb dX0_puts_96 (lv_at hl 0 rfl) ?_
        obtain ⟨K182, eK182, h⟩ := lt_step h
        have HK182 : ∀ (v181 : Int32) (h : K182 v181 = some r) (H : Heap) (locs : List Loc) (hS : St D s H locs) (hF : Off (fun a => a = x0r0 ∨ a = x0r0r0 ∨ a = x0r0r2) s.heap H) (h_x0 : OA D 1 x0 [.ref x0r0] H) (h_x0r0 : ON D 0 x0r0 [.ref x0r0r0, .ref x0r0r1, .ref x0r0r2, .int o2.2.1, .int x0r0f4, .int x0r0f5, .int x0r0f6] H) (h_x0r0r0 : aD D x0r0r0 8 o2.2.2.1 H) (h_x0r0r1 : aD D x0r0r1 8 x0r0r1c H) (h_x0r0r2 : aZ D x0r0r2 8 o2.2.2.2 H) (ls : Array Slot) (hl : lv_has ls 13 [(0, .ref x0), (1, .int x1), (3, .int o1), (6, .int (bI v3)), (7, .int v171), (8, .int v174), (9, .int (bI v176))]), W p l e R_X0_puts s m A below meth c H locs 279 2874 Q (F0 m 106 ls [.int v181, .long v180]) := by
          intro v181 h H locs hS hF h_x0 h_x0r0 h_x0r0r0 h_x0r0r1 h_x0r0r2 ls hl
          subst eK182
          obtain ⟨v183, ev183, h⟩ := ltl_step h
          refine r_i2l hx hb ev183 dX0_puts_106 ?_
          obtain ⟨v184, ev184, h⟩ := ltl_step h
          refine r_lmul hx hb ev184 dX0_puts_107 ?_
          refine lv_lstore (lv' := [(4, .long v184), (0, .ref x0), (1, .int x1), (3, .int o1), (6, .int (bI v3)), (7, .int v171), (8, .int v174), (9, .int (bI v176))]) hx hb dX0_puts_108 hl (by decide) rfl (fun ls hl => ?_)
          refine lv_iload hx hb dX0_puts_110 (lv_at hl 4 rfl) ?_
          obtain ⟨K189, eK189, h⟩ := lt_step h
          have HK189 : ∀ (f185 : Nat → UInt64) (f186 : Nat → Int32) (v187 : Int32) (v188 : Bool) (h : K189 f185 f186 v187 v188 = some r) (H : Heap) (locs : List Loc) (hS : St D s H locs) (hF : Off (fun a => a = x0r0 ∨ a = x0r0r0 ∨ a = x0r0r2) s.heap H) (h_x0 : OA D 1 x0 [.ref x0r0] H) (h_x0r0 : ON D 0 x0r0 [.ref x0r0r0, .ref x0r0r1, .ref x0r0r2, .int v187, .int x0r0f4, .int x0r0f5, .int x0r0f6] H) (h_x0r0r0 : aD D x0r0r0 8 f185 H) (h_x0r0r1 : aD D x0r0r1 8 x0r0r1c H) (h_x0r0r2 : aZ D x0r0r2 8 f186 H) (ls : Array Slot) (hl : lv_has ls 13 [(0, .ref x0), (1, .int x1), (3, .int o1), (4, .long v184)]), W p l e R_X0_puts s m A below meth c H locs 815 8102 Q (F0 m 194 ls [.int (bI v188)]) := by
            intro f185 f186 v187 v188 h H locs hS hF h_x0 h_x0r0 h_x0r0r0 h_x0r0r1 h_x0r0r2 ls hl
            subst eK189
            refine lv_istore (lv' := [(6, .int (bI v188)), (0, .ref x0), (1, .int x1), (3, .int o1), (4, .long v184)]) hx hb dX0_puts_194 hl (by decide) rfl (fun ls hl => ?_)
            refine lv_goto (tgt := 333) hx hb dX0_puts_196 (by decide) ?_
            exact HK11 f185 f186 v187 v184 v188 h H locs hS hF h_x0 h_x0r0 h_x0r0r0 h_x0r0r1 h_x0r0r2 ls (lv_sub hl [1, 2, 3, 4, 0] rfl)
          clear eK189
          obtain ⟨K193, eK193, h⟩ := lt_step h
          have HK193 : ∀ (f190 : Nat → UInt64) (f191 : Nat → Int32) (v192 : Int32) (h : K193 f190 f191 v192 = some r) (H : Heap) (locs : List Loc) (hS : St D s H locs) (hF : Off (fun a => a = x0r0 ∨ a = x0r0r0 ∨ a = x0r0r2) s.heap H) (h_x0 : OA D 1 x0 [.ref x0r0] H) (h_x0r0 : ON D 0 x0r0 [.ref x0r0r0, .ref x0r0r1, .ref x0r0r2, .int v192, .int x0r0f4, .int x0r0f5, .int x0r0f6] H) (h_x0r0r0 : aD D x0r0r0 8 f190 H) (h_x0r0r1 : aD D x0r0r1 8 x0r0r1c H) (h_x0r0r2 : aZ D x0r0r2 8 f191 H) (ls : Array Slot) (hl : lv_has ls 13 [(0, .ref x0), (1, .int x1), (3, .int o1), (4, .long v184)]), W p l e R_X0_puts s m A below meth c H locs 815 8102 Q (F0 m 193 ls []) := by
            intro f190 f191 v192 h H locs hS hF h_x0 h_x0r0 h_x0r0r0 h_x0r0r1 h_x0r0r2 ls hl
            subst eK193
            refine lv_iconst (v := 0) hx hb dX0_puts_193 (by decide) ?_
            exact HK189 f190 f191 v192 false h H locs hS hF h_x0 h_x0r0 h_x0r0r0 h_x0r0r1 h_x0r0r2 ls (lv_sub hl [0, 1, 2, 3] rfl)
          clear eK193
          refine r_ifz_eq (tgt := 193) hx hb dX0_puts_112 (by decide) (fun c194 => ?_) (fun c194 => ?_)
          · have h := it_neg h (by rw [c194]; decide)
            refine W.widen (k := 815) (n := 8102) (Nat.le_of_ble_eq_true rfl) (Nat.le_of_ble_eq_true rfl) ?_
            exact HK193 o2.2.2.1 o2.2.2.2 o2.2.1 h H locs hS hF h_x0 h_x0r0 h_x0r0r0 h_x0r0r1 h_x0r0r2 ls (lv_sub hl [1, 2, 3, 0] rfl)
          · have h := it_pos h (by rw [c194])
            refine lv_aload_n hx hb dX0_puts_115 rfl (lv_at hl 1 rfl) ?_
            refine r_get hx hb hts hown hS h_x0 rfl in_X0 0 (by decide) q936 rfl (v := .ref x0r0) rfl dX0_puts_116 ?_
            refine lv_iload_n hx hb dX0_puts_119 rfl (lv_at hl 2 rfl) ?_
            refine lv_iload hx hb dX0_puts_120 (lv_at hl 5 rfl) ?_
            refine lv_iload hx hb dX0_puts_122 (lv_at hl 6 rfl) ?_
            refine lv_iload hx hb dX0_puts_124 (lv_at hl 7 rfl) ?_
            obtain ⟨o195, eo195, h⟩ := bind_step h
            refine r_ci (r_runV (rest := []) (As := [.int x1, .int v171, .int v174, .int (bI v176)]) hC 4 (m_X1_great x0r0 x0r0r0 x0r0r1 x0r0r2  o2.2.2.1 x0r0r1c o2.2.2.2 o2.2.1 x0r0f4 x0r0f5 x0r0f6 x1 v171 v174 v176 o195 eo195) q1358 q1359 q1360 q46 q1361 (OA.recv hS h_x0r0.OA (C := RX1) rfl) hd_X1_great rfl ⟨Nat.le_of_ble_eq_true rfl, Nat.le_of_ble_eq_true rfl⟩ hS ⟨h_x0r0, hB_h_x0r0, h_x0r0r0, hB_h_x0r0r0, h_x0r0r1, h_x0r0r2, hB_h_x0r0r2, ne_x0r0_x0r0r0, ne_x0r0_x0r0r1, ne_x0r0_x0r0r2, ne_x0r0r0_x0r0r1, ne_x0r0r0_x0r0r2, ne_x0r0r1_x0r0r2⟩ hl.1 rfl (Nat.le_of_ble_eq_true rfl) dX0_puts_126 ⟨Nat.le_of_ble_eq_true rfl, Nat.le_of_ble_eq_true rfl⟩) hS (fun b H locs hp hS hz => ?_)
            obtain ⟨rfl, h_x0r0, h_x0r0r0, h_x0r0r2, hO⟩ := hp
            have h_x0 := h_x0.off hO (fun z => by rcases z with z | z | z <;> first | exact ne_x0_x0r0 z | exact ne_x0_x0r0r0 z | exact ne_x0_x0r0r2 z)
            have h_x0r0r1 := h_x0r0r1.off hO (fun z => by rcases z with z | z | z <;> first | exact (Ne.symm ne_x0r0_x0r0r1) z | exact (Ne.symm ne_x0r0r0_x0r0r1) z | exact ne_x0r0r1_x0r0r2 z)
            have hF := hF.fresh hO (fun a ha z => by
              rcases z with z | z | z
              · exact Or.inl z
              · exact Or.inr (Or.inl z)
              · exact Or.inr (Or.inr (z)))
            refine lv_lload hx hb dX0_puts_129 (lv_at hl 0 rfl) ?_
            refine lv_ldc2 hx hb (v := 9007199254740992) hown (hts _ q1496) dX0_puts_131 ?_
            obtain ⟨v196, ev196, h⟩ := lti_step h
            refine r_lcmp hx hb ev196 dX0_puts_134 ?_
            obtain ⟨K198, eK198, h⟩ := lt_step h
            have HK198 : ∀ (v197 : Bool) (h : K198 v197 = some r) (H : Heap) (locs : List Loc) (hS : St D s H locs) (hF : Off (fun a => a = x0r0 ∨ a = x0r0r0 ∨ a = x0r0r2) s.heap H) (h_x0 : OA D 1 x0 [.ref x0r0] H) (h_x0r0 : ON D 0 x0r0 [.ref x0r0r0, .ref x0r0r1, .ref x0r0r2, .int o195.2.1, .int x0r0f4, .int x0r0f5, .int x0r0f6] H) (h_x0r0r0 : aD D x0r0r0 8 o195.2.2.1 H) (h_x0r0r1 : aD D x0r0r1 8 x0r0r1c H) (h_x0r0r2 : aZ D x0r0r2 8 o195.2.2.2 H) (ls : Array Slot) (hl : lv_has ls 13 [(0, .ref x0), (1, .int x1), (3, .int o1), (4, .long v184), (7, .int v171), (8, .int v174), (9, .int (bI v176))]), W p l e R_X0_puts s m A below meth c H locs 547 5488 Q (F0 m 143 ls [.int (bI v197), .int o195.1]) := by
              intro v197 h H locs hS hF h_x0 h_x0r0 h_x0r0r0 h_x0r0r1 h_x0r0r2 ls hl
              subst eK198
              refine lv_icmp_ne (tgt := 193) hx hb dX0_puts_143 (by decide) (fun c199 => ?_) (fun c199 => ?_)
              · have h := it_neg h c199
                refine W.widen (k := 815) (n := 8102) (Nat.le_of_ble_eq_true rfl) (Nat.le_of_ble_eq_true rfl) ?_
                exact HK193 o195.2.2.1 o195.2.2.2 o195.2.1 h H locs hS hF h_x0 h_x0r0 h_x0r0r0 h_x0r0r1 h_x0r0r2 ls (lv_sub hl [0, 1, 2, 3] rfl)
              · have h := it_pos h c199
                refine lv_aload_n hx hb dX0_puts_146 rfl (lv_at hl 0 rfl) ?_
                refine r_get hx hb hts hown hS h_x0 rfl in_X0 0 (by decide) q936 rfl (v := .ref x0r0) rfl dX0_puts_147 ?_
                refine lv_iload_n hx hb dX0_puts_150 rfl (lv_at hl 1 rfl) ?_
                refine lv_iload hx hb dX0_puts_151 (lv_at hl 4 rfl) ?_
                refine lv_iload hx hb dX0_puts_153 (lv_at hl 5 rfl) ?_
                refine lv_iload hx hb dX0_puts_155 (lv_at hl 6 rfl) ?_
                obtain ⟨o200, eo200, h⟩ := bind_step h
                refine r_ci (r_runV (rest := []) (As := [.int x1, .int v171, .int v174, .int (bI v176)]) hC 4 (m_X1_great x0r0 x0r0r0 x0r0r1 x0r0r2  o195.2.2.1 x0r0r1c o195.2.2.2 o195.2.1 x0r0f4 x0r0f5 x0r0f6 x1 v171 v174 v176 o200 eo200) q1358 q1359 q1360 q46 q1361 (OA.recv hS h_x0r0.OA (C := RX1) rfl) hd_X1_great rfl ⟨Nat.le_of_ble_eq_true rfl, Nat.le_of_ble_eq_true rfl⟩ hS ⟨h_x0r0, hB_h_x0r0, h_x0r0r0, hB_h_x0r0r0, h_x0r0r1, h_x0r0r2, hB_h_x0r0r2, ne_x0r0_x0r0r0, ne_x0r0_x0r0r1, ne_x0r0_x0r0r2, ne_x0r0r0_x0r0r1, ne_x0r0r0_x0r0r2, ne_x0r0r1_x0r0r2⟩ hl.1 rfl (Nat.le_of_ble_eq_true rfl) dX0_puts_157 ⟨Nat.le_of_ble_eq_true rfl, Nat.le_of_ble_eq_true rfl⟩) hS (fun b H locs hp hS hz => ?_)
                obtain ⟨rfl, h_x0r0, h_x0r0r0, h_x0r0r2, hO⟩ := hp
                have h_x0 := h_x0.off hO (fun z => by rcases z with z | z | z <;> first | exact ne_x0_x0r0 z | exact ne_x0_x0r0r0 z | exact ne_x0_x0r0r2 z)
                have h_x0r0r1 := h_x0r0r1.off hO (fun z => by rcases z with z | z | z <;> first | exact (Ne.symm ne_x0r0_x0r0r1) z | exact (Ne.symm ne_x0r0r0_x0r0r1) z | exact ne_x0r0r1_x0r0r2 z)
                have hF := hF.fresh hO (fun a ha z => by
                  rcases z with z | z | z
                  · exact Or.inl z
                  · exact Or.inr (Or.inl z)
                  · exact Or.inr (Or.inr (z)))
                refine lv_if_ne (tgt := 193) hx hb dX0_puts_160 (by decide) (fun c201 => ?_) (fun c201 => ?_)
                · have h := it_neg h c201
                  exact HK193 o200.2.2.1 o200.2.2.2 o200.2.1 h H locs hS hF h_x0 h_x0r0 h_x0r0r0 h_x0r0r1 h_x0r0r2 ls (lv_sub hl [0, 1, 2, 3] rfl)
                · have h := it_pos h c201
                  refine lv_aload_n hx hb dX0_puts_163 rfl (lv_at hl 0 rfl) ?_
                  refine r_get hx hb hts hown hS h_x0 rfl in_X0 0 (by decide) q936 rfl (v := .ref x0r0) rfl dX0_puts_164 ?_
                  refine lv_iload_n hx hb dX0_puts_167 rfl (lv_at hl 1 rfl) ?_
                  obtain ⟨o202, eo202, h⟩ := bind_step h
                  refine r_cp (r_runV (rest := []) (As := [.int x1]) hC 1 (m_X1_angleDoublings x0r0 x0r0r0 x0r0r1 x0r0r2  o200.2.2.1 x0r0r1c o200.2.2.2 o200.2.1 x0r0f4 x0r0f5 x0r0f6 x1 o202 eo202) q1497 q1498 q1499 q46 q1500 (OA.recv hS h_x0r0.OA (C := RX1) rfl) hd_X1_angleDoublings rfl ⟨Nat.le_of_ble_eq_true rfl, Nat.le_of_ble_eq_true rfl⟩ hS ⟨h_x0r0, h_x0r0r0, h_x0r0r1, h_x0r0r2⟩ hl.1 rfl (Nat.le_of_ble_eq_true rfl) dX0_puts_168 ⟨Nat.le_of_ble_eq_true rfl, Nat.le_of_ble_eq_true rfl⟩) ?_
                  refine lv_iload hx hb dX0_puts_171 (lv_at hl 5 rfl) ?_
                  refine lv_icmp_ne (tgt := 193) hx hb dX0_puts_173 (by decide) (fun c203 => ?_) (fun c203 => ?_)
                  · have h := it_neg h c203
                    exact HK193 o200.2.2.1 o200.2.2.2 o200.2.1 h H locs hS hF h_x0 h_x0r0 h_x0r0r0 h_x0r0r1 h_x0r0r2 ls (lv_sub hl [0, 1, 2, 3] rfl)
                  · have h := it_pos h c203
                    refine lv_aload_n hx hb dX0_puts_176 rfl (lv_at hl 0 rfl) ?_
                    refine r_get hx hb hts hown hS h_x0 rfl in_X0 0 (by decide) q936 rfl (v := .ref x0r0) rfl dX0_puts_177 ?_
                    refine lv_iload_n hx hb dX0_puts_180 rfl (lv_at hl 1 rfl) ?_
                    obtain ⟨o204, eo204, h⟩ := bind_step h
                    refine r_cp (r_runV (rest := []) (As := [.int x1]) hC 1 (m_X1_angleEighths x0r0 x0r0r0 x0r0r1 x0r0r2  o200.2.2.1 x0r0r1c o200.2.2.2 o200.2.1 x0r0f4 x0r0f5 x0r0f6 x1 o204 eo204) q1501 q1502 q1503 q46 q1504 (OA.recv hS h_x0r0.OA (C := RX1) rfl) hd_X1_angleEighths rfl ⟨Nat.le_of_ble_eq_true rfl, Nat.le_of_ble_eq_true rfl⟩ hS ⟨h_x0r0, h_x0r0r0, h_x0r0r1, h_x0r0r2⟩ hl.1 rfl (Nat.le_of_ble_eq_true rfl) dX0_puts_181 ⟨Nat.le_of_ble_eq_true rfl, Nat.le_of_ble_eq_true rfl⟩) ?_
                    refine lv_ldc hx hb (v := (-2147483648)) hown (hts _ q1505) dX0_puts_184 ?_
                    refine lv_icmp_ne (tgt := 193) hx hb dX0_puts_186 (by decide) (fun c205 => ?_) (fun c205 => ?_)
                    · have h := it_neg h c205
                      exact HK193 o200.2.2.1 o200.2.2.2 o200.2.1 h H locs hS hF h_x0 h_x0r0 h_x0r0r0 h_x0r0r1 h_x0r0r2 ls (lv_sub hl [0, 1, 2, 3] rfl)
                    · have h := it_pos h c205
                      refine lv_iconst (v := 1) hx hb dX0_puts_189 (by decide) ?_
                      refine lv_goto (tgt := 194) hx hb dX0_puts_190 (by decide) ?_
                      exact HK189 o200.2.2.1 o200.2.2.2 o200.2.1 true h H locs hS hF h_x0 h_x0r0 h_x0r0r0 h_x0r0r1 h_x0r0r2 ls (lv_sub hl [0, 1, 2, 3] rfl)
            clear eK198
            refine lv_if_ne (tgt := 142) hx hb dX0_puts_135 (by decide) (fun c206 => ?_) (fun c206 => ?_)
            · have h := it_neg h c206
              refine lv_iconst (v := 1) hx hb dX0_puts_142 (by decide) ?_
              exact HK198 true h H locs hS hF h_x0 h_x0r0 h_x0r0r0 h_x0r0r1 h_x0r0r2 ls (lv_sub hl [1, 2, 3, 0, 5, 6, 7] rfl)
            · have h := it_pos h c206
              refine lv_iconst (v := 0) hx hb dX0_puts_138 (by decide) ?_
              refine lv_goto (tgt := 143) hx hb dX0_puts_139 (by decide) ?_
              exact HK198 false h H locs hS hF h_x0 h_x0r0 h_x0r0r0 h_x0r0r1 h_x0r0r2 ls (lv_sub hl [1, 2, 3, 0, 5, 6, 7] rfl)
        clear eK182
        refine r_ifz_eq (tgt := 105) hx hb dX0_puts_98 (by decide) (fun c207 => ?_) (fun c207 => ?_)
        · have h := it_neg h (by rw [c207]; decide)
          refine lv_iconst (v := 1) hx hb dX0_puts_105 (by decide) ?_
          exact HK182 1 h H locs hS hF h_x0 h_x0r0 h_x0r0r0 h_x0r0r1 h_x0r0r2 ls (lv_sub hl [1, 2, 3, 4, 5, 6, 0] rfl)
        · have h := it_pos h (by rw [c207])
          refine lv_iconst (v := (-1)) hx hb dX0_puts_101 (by decide) ?_
          refine lv_goto (tgt := 106) hx hb dX0_puts_102 (by decide) ?_
          exact HK182 (-1) h H locs hS hF h_x0 h_x0r0 h_x0r0r0 h_x0r0r1 h_x0r0r2 ls (lv_sub hl [1, 2, 3, 4, 5, 6, 0] rfl)
      clear eK177
      refine lv_if_eq (tgt := 85) hx hb dX0_puts_78 (by decide) (fun c208 => ?_) (fun c208 => ?_)
      · have h := it_pos h c208
        refine lv_iconst (v := 0) hx hb dX0_puts_85 (by decide) ?_
        exact HK177 false h H locs hS hF h_x0 h_x0r0 h_x0r0r0 h_x0r0r1 h_x0r0r2 ls (lv_sub hl [3, 4, 6, 2, 1, 0] rfl)
      · have h := it_neg h c208
        refine lv_iconst (v := 1) hx hb dX0_puts_81 (by decide) ?_
        refine lv_goto (tgt := 86) hx hb dX0_puts_82 (by decide) ?_
        exact HK177 true h H locs hS hF h_x0 h_x0r0 h_x0r0r0 h_x0r0r1 h_x0r0r2 ls (lv_sub hl [3, 4, 6, 2, 1, 0] rfl)
  clear eK4
  obtain ⟨K209, eK209, h⟩ := lt_step h
  have HK209 : ∀  (h : K209 () = some r) (H : Heap) (locs : List Loc) (hS : St D s H locs) (hF : Off (fun a => a = x0r0 ∨ a = x0r0r0 ∨ a = x0r0r2) s.heap H) (h_x0 : OA D 1 x0 [.ref x0r0] H) (h_x0r0 : ON D 0 x0r0 [.ref x0r0r0, .ref x0r0r1, .ref x0r0r2, .int o2.2.1, .int x0r0f4, .int x0r0f5, .int x0r0f6] H) (h_x0r0r0 : aD D x0r0r0 8 o2.2.2.1 H) (h_x0r0r1 : aD D x0r0r1 8 x0r0r1c H) (h_x0r0r2 : aZ D x0r0r2 8 o2.2.2.2 H) (ls : Array Slot) (hl : lv_has ls 13 [(0, .ref x0), (1, .int x1), (2, .int x2), (3, .int o1)]), W p l e R_X0_puts s m A below meth c H locs 279 2874 Q (F0 m 37 ls []) := by
    intro h H locs hS hF h_x0 h_x0r0 h_x0r0r0 h_x0r0r1 h_x0r0r2 ls hl
    subst eK209
    refine lv_iconst (v := 0) hx hb dX0_puts_37 (by decide) ?_
    exact HK4 false h H locs hS hF h_x0 h_x0r0 h_x0r0r0 h_x0r0r1 h_x0r0r2 ls (lv_sub hl [0, 1, 2, 3] rfl)
  clear eK209
  refine lv_if_lt (tgt := 37) hx hb dX0_puts_18 (by decide) (fun c210 => ?_) (fun c210 => ?_)
  · have h := it_pos h c210
    refine W.widen (k := 279) (n := 2874) (Nat.le_of_ble_eq_true rfl) (Nat.le_of_ble_eq_true rfl) ?_
    exact HK209  h H locs hS hF h_x0 h_x0r0 h_x0r0r0 h_x0r0r1 h_x0r0r2 ls (lv_sub hl [1, 2, 3, 0] rfl)
  · have h := it_neg h c210
    refine lv_aload_n hx hb dX0_puts_21 rfl (lv_at hl 1 rfl) ?_
    refine lv_iload_n hx hb dX0_puts_22 rfl (lv_at hl 2 rfl) ?_
    obtain ⟨o211, eo211, h⟩ := bind_step h
    refine r_cl (r_runV (rest := []) (As := [.int x1]) hC 1 (m_X0_its x0 x0r0 x0r0r0 x0r0r1 x0r0r2  o2.2.2.1 x0r0r1c o2.2.2.2 o2.2.1 x0r0f4 x0r0f5 x0r0f6 x1 o211 eo211) q944 q946 qs10 q39 q947 (OA.recv hS h_x0 (C := RX0) rfl) hd_X0_its rfl ⟨Nat.le_of_ble_eq_true rfl, Nat.le_of_ble_eq_true rfl⟩ hS ⟨h_x0, h_x0r0, h_x0r0r0, h_x0r0r1, h_x0r0r2⟩ hl.1 rfl (Nat.le_of_ble_eq_true rfl) dX0_puts_23 ⟨Nat.le_of_ble_eq_true rfl, Nat.le_of_ble_eq_true rfl⟩) hS (fun b H locs hp hS hz => ?_)
    obtain ⟨eb_, hO⟩ := hp
    rw [eb_]
    have h_x0 := h_x0.ext hO
    have h_x0r0 := h_x0r0.ext hO
    have h_x0r0r0 := h_x0r0r0.ext hO
    have h_x0r0r1 := h_x0r0r1.ext hO
    have h_x0r0r2 := h_x0r0r2.ext hO
    have hF := hF.trans (hO.mono (fun _ _ z => z.elim))
    refine lv_ldc2 hx hb (v := 9007199254740992) hown (hts _ q1496) dX0_puts_26 ?_
    obtain ⟨v212, ev212, h⟩ := lti_step h
    refine r_lcmp hx hb ev212 dX0_puts_29 ?_
    refine lv_if_ne (tgt := 37) hx hb dX0_puts_30 (by decide) (fun c213 => ?_) (fun c213 => ?_)
    · have h := it_neg h c213
      exact HK209  h H locs hS hF h_x0 h_x0r0 h_x0r0r0 h_x0r0r1 h_x0r0r2 ls (lv_sub hl [1, 2, 3, 0] rfl)
    · have h := it_pos h c213
      refine lv_iconst (v := 1) hx hb dX0_puts_33 (by decide) ?_
      refine lv_goto (tgt := 38) hx hb dX0_puts_34 (by decide) ?_
      exact HK4 true h H locs hS hF h_x0 h_x0r0 h_x0r0r0 h_x0r0r1 h_x0r0r2 ls (lv_sub hl [1, 2, 3, 0] rfl)

abbrev R_X0_areAnswers : Room := { frames := 13, cells := 2996, slots := 32208, locals := 1517 }
noncomputable def f_X0_areAnswers (x0r0r0c : Nat → UInt64) (x0r0r1c : Nat → UInt64) (x0r0r2c : Nat → Int32) (x0r0f3 : Int32) (x0r0f4 : Int32) (x0r0f5 : Int32) (x0r0f6 : Int32) (x1 : Int32) (x2 : Int32) : Option (Bool × Int32 × Int32 × Int32 × (Nat → UInt64) × (Nat → UInt64) × (Nat → Int32)) :=
  Option.bind (f_X0_answer x0r0r0c x0r0r1c x0r0r2c x0r0f3 x0r0f4 x0r0f5 x0r0f6 0 x1 0) fun o1 =>
  Option.bind (f_X0_answer x0r0r0c o1.2.2 x0r0r2c x0r0f3 o1.2.1 x0r0f5 x0r0f6 1 x1 1) fun o2 =>
  Option.bind (f_X0_answer x0r0r0c o2.2.2 x0r0r2c x0r0f3 o2.2.1 x0r0f5 x0r0f6 2 x1 2) fun o3 =>
  Option.bind (f_X0_size o1.1) fun o4 =>
  lti (lg_cmp o4 1073741824) fun v5 =>
  lt (fun (v6 : Bool) =>
  ltl ((o3.1 : Int64) >>> ((18 : Int32).toInt64 &&& 63)) fun v8 =>
  lt (fun (v9 : Bool) =>
  Option.bind (f_X1_angleEighths x0r0r0c o3.2.2 x0r0r2c x0r0f3 o3.2.1 x0r0f5 x0r0f6 x1) fun o11 =>
  Option.bind (f_X1_angleCopy x0r0r0c o3.2.2 x0r0r2c x0r0f3 o3.2.1 x0r0f5 x0r0f6 x1 7) fun o12 =>
  Option.bind (f_X1_angleTurn o12.2.2.1 o3.2.2 o12.2.2.2 o12.2.1 o3.2.1 x0r0f5 x0r0f6 7) fun o13 =>
  Option.bind (f_X0_answer o13.2.2.1 o3.2.2 o13.2.2.2 o13.2.1 o3.2.1 x0r0f5 x0r0f6 0 7 3) fun o14 =>
  Option.bind (f_X0_answer o13.2.2.1 o14.2.2 o13.2.2.2 o13.2.1 o14.2.1 x0r0f5 x0r0f6 1 7 4) fun o15 =>
  Option.bind (f_X0_answer o13.2.2.1 o15.2.2 o13.2.2.2 o13.2.1 o15.2.1 x0r0f5 x0r0f6 2 7 5) fun o16 =>
  lt (fun (v17 : Bool) =>
  lt (fun (f19 : Nat → UInt64) (v20 : Int32) (v21 : Bool) =>
  lt (fun (v23 : Bool) (v24 : Int32) =>
  (show Option (Sum (Bool × Int32) (Bool)) from (
  (if 3 ≤ v24 then
    some (.inr v23)
  else
    lt (fun (v44 : Bool) =>
    lti (v24 + 1) fun v46 =>
    some (.inl (v44, v46))
    ) fun K45 =>
    lt (fun (_u : Unit) =>
    K45 false
    ) fun K47 =>
    (if v23 = true then
      lti (x2 >>> (v24 &&& 31)) fun v49 =>
      Option.bind (f_X0_some v49 3) fun o50 =>
      Option.bind (f_X1_isMirrored o13.2.2.1 f19 o13.2.2.2 o13.2.1 v20 x0r0f5 x0r0f6 x1 v24 o50) fun o51 =>
      (if o51 = true then
        Option.bind (f_X1_order o13.2.2.1 f19 o13.2.2.2 o13.2.1 v20 x0r0f5 x0r0f6 v24 x1 7) fun o53 =>
        Option.bind (f_X1_order o13.2.2.1 f19 o13.2.2.2 o13.2.1 v20 x0r0f5 x0r0f6 v24 7 x1) fun o54 =>
        lti (-o54) fun v55 =>
        (if o53 = v55 then
          K45 true
        else
          K47 ()
        )
      else
        K47 ()
      )
    else
      K47 ()
    )
  )
  ))
  ) fun F40 =>
  Option.bind (lp 9 (fun x => F40 x.1 x.2) (v21, 0)) fun w41 =>
  lt (fun (v57 : Bool) =>
  Option.bind (f_X1_angleCopy o13.2.2.1 f19 o13.2.2.2 o13.2.1 v20 x0r0f5 x0r0f6 x1 6) fun o59 =>
  Option.bind (f_X1_angleTwice o59.2.2.1 f19 o59.2.2.2 o59.2.1 v20 x0r0f5 x0r0f6 6) fun o60 =>
  lt (fun (v61 : Bool) =>
  (if o60.1 = (-9) then
    some (v61, o60.2.1, v20, o60.2.2.1, o60.2.2.2.1, f19, o60.2.2.2.2)
  else
    Option.bind (f_X0_size o1.1) fun o64 =>
    Option.bind (f_X0_size o2.1) fun o65 =>
    ltl ((o64 + o65 : Int64)) fun v66 =>
    ltl ((2 * v66 : Int64)) fun v67 =>
    ltl ((v67 + 2 : Int64)) fun v68 =>
    ltl ((v68 + 1073741824 : Int64)) fun v69 =>
    (if v61 = true then
      ltl ((2 * o1.1 : Int64)) fun v71 =>
      ltl ((v71 * o2.1 : Int64)) fun v72 =>
      Option.bind (f_X0_answer o60.2.2.2.1 f19 o60.2.2.2.2 o60.2.1 v20 o60.2.2.1 x0r0f6 0 6 6) fun o73 =>
      ltl ((o73.1 * 1073741824 : Int64)) fun v74 =>
      Option.bind (f_X0_isNear v72 v74 v69) fun o75 =>
      (if o75 = true then
        ltl ((o2.1 * o2.1 : Int64)) fun v77 =>
        ltl ((o1.1 * o1.1 : Int64)) fun v78 =>
        ltl ((v77 - v78 : Int64)) fun v79 =>
        Option.bind (f_X0_answer o60.2.2.2.1 o73.2.2 o60.2.2.2.2 o60.2.1 o73.2.1 o60.2.2.1 x0r0f6 1 6 7) fun o80 =>
        ltl ((o80.1 * 1073741824 : Int64)) fun v81 =>
        Option.bind (f_X0_isNear v79 v81 v69) fun o82 =>
        (if o82 = true then
          some (true, o60.2.1, o80.2.1, o60.2.2.1, o60.2.2.2.1, o80.2.2, o60.2.2.2.2)
        else
          some (false, o60.2.1, o80.2.1, o60.2.2.1, o60.2.2.2.1, o80.2.2, o60.2.2.2.2)
        )
      else
        some (false, o60.2.1, o73.2.1, o60.2.2.1, o60.2.2.2.1, o73.2.2, o60.2.2.2.2)
      )
    else
      some (false, o60.2.1, v20, o60.2.2.1, o60.2.2.2.1, f19, o60.2.2.2.2)
    )
  )
  ) fun K62 =>
  lt (fun (_u : Unit) =>
  K62 false
  ) fun K84 =>
  (if v57 = true then
    Option.bind (f_X1_holdsTwice o60.2.2.2.1 f19 o60.2.2.2.2 o60.2.1 v20 o60.2.2.1 x0r0f6 x1 0) fun o86 =>
    lt (fun (v87 : Int32) =>
    (if o86 = v87 then
      Option.bind (f_X1_holdsTwice o60.2.2.2.1 f19 o60.2.2.2.2 o60.2.1 v20 o60.2.2.1 x0r0f6 x1 1) fun o90 =>
      lt (fun (v91 : Int32) =>
      (if o90 = v91 then
        lti (x2 &&& 1) fun v94 =>
        Option.bind (f_X1_holdsStep o60.2.2.2.1 f19 o60.2.2.2.2 o60.2.1 v20 o60.2.2.1 x0r0f6 x1 v94) fun o95 =>
        lt (fun (v96 : Int32) =>
        (if o95 = v96 then
          K62 true
        else
          K84 ()
        )
        ) fun K97 =>
        lt (fun (_u : Unit) =>
        K97 (-9)
        ) fun K99 =>
        (if o11 = (-2147483648) then
          K99 ()
        else
          (if o11 = 32768 then
            K99 ()
          else
            K97 1
          )
        )
      else
        K84 ()
      )
      ) fun K92 =>
      (if o60.1 = (-9) then
        K92 (-9)
      else
        K92 1
      )
    else
      K84 ()
    )
    ) fun K88 =>
    (if o60.1 = (-9) then
      K88 (-9)
    else
      K88 1
    )
  else
    K84 ()
  )
  ) fun K58 =>
  lt (fun (_u : Unit) =>
  K58 false
  ) fun K104 =>
  (if w41 = true then
    Option.bind (f_X1_isWithin o13.2.2.1 f19 o13.2.2.2 o13.2.1 v20 x0r0f5 x0r0f6 x1 0) fun o106 =>
    (if o106 = true then
      Option.bind (f_X1_isWithin o13.2.2.1 f19 o13.2.2.2 o13.2.1 v20 x0r0f5 x0r0f6 x1 1) fun o108 =>
      (if o108 = true then
        Option.bind (f_X1_isRound o13.2.2.1 f19 o13.2.2.2 o13.2.1 v20 x0r0f5 x0r0f6 x1) fun o110 =>
        (if o110 = true then
          Option.bind (f_X1_isSlope o13.2.2.1 f19 o13.2.2.2 o13.2.1 v20 x0r0f5 x0r0f6 x1) fun o112 =>
          (if o112 = true then
            Option.bind (f_X1_order o13.2.2.1 f19 o13.2.2.2 o13.2.1 v20 x0r0f5 x0r0f6 1 x1 7) fun o114 =>
            (if o114 = 0 then
              K58 true
            else
              K104 ()
            )
          else
            K104 ()
          )
        else
          K104 ()
        )
      else
        K104 ()
      )
    else
      K104 ()
    )
  else
    K104 ()
  )
  ) fun K22 =>
  lt (fun (f116 : Nat → UInt64) (v117 : Int32) =>
  K22 f116 v117 false
  ) fun K118 =>
  (if v17 = true then
    Option.bind (f_X1_flip o13.2.2.1 o16.2.2 o13.2.2.2 o13.2.1 o16.2.1 x0r0f5 x0r0f6 3) fun o120 =>
    ltl (o120.1.toInt64) fun v121 =>
    Option.bind (f_X1_heightText o13.2.2.1 o120.2.2 o13.2.2.2 o13.2.1 o120.2.1 x0r0f5 x0r0f6 0) fun o122 =>
    Option.bind (f_X0_part o122.1 o122.2 0) fun o125 =>
    lti (lg_cmp v121 o125) fun v126 =>
    (if v126 = 0 then
      Option.bind (f_X1_heightSame o13.2.2.1 o120.2.2 o13.2.2.2 o13.2.1 o120.2.1 x0r0f5 x0r0f6 3 0 1) fun o128 =>
      (if o128 = true then
        Option.bind (f_X1_flip o13.2.2.1 o120.2.2 o13.2.2.2 o13.2.1 o120.2.1 x0r0f5 x0r0f6 5) fun o130 =>
        ltl (o130.1.toInt64) fun v131 =>
        Option.bind (f_X1_heightText o13.2.2.1 o130.2.2 o13.2.2.2 o13.2.1 o130.2.1 x0r0f5 x0r0f6 2) fun o132 =>
        Option.bind (f_X0_part o132.1 o132.2 0) fun o135 =>
        lti (lg_cmp v131 o135) fun v136 =>
        (if v136 = 0 then
          Option.bind (f_X1_heightSame o13.2.2.1 o130.2.2 o13.2.2.2 o13.2.1 o130.2.1 x0r0f5 x0r0f6 5 2 2) fun o138 =>
          (if o138 = true then
            Option.bind (f_X1_isAnswer o13.2.2.1 o130.2.2 o13.2.2.2 o13.2.1 o130.2.1 x0r0f5 x0r0f6 3 0 x1) fun o140 =>
            (if o140 = true then
              Option.bind (f_X1_isAnswer o13.2.2.1 o130.2.2 o13.2.2.2 o13.2.1 o130.2.1 x0r0f5 x0r0f6 3 0 7) fun o142 =>
              (if o142 = true then
                K118 o130.2.2 o130.2.1
              else
                K22 o130.2.2 o130.2.1 true
              )
            else
              K118 o130.2.2 o130.2.1
            )
          else
            K118 o130.2.2 o130.2.1
          )
        else
          K118 o130.2.2 o130.2.1
        )
      else
        K118 o120.2.2 o120.2.1
      )
    else
      K118 o120.2.2 o120.2.1
    )
  else
    K118 o16.2.2 o16.2.1
  )
  ) fun K18 =>
  lt (fun (_u : Unit) =>
  K18 false
  ) fun K144 =>
  (if v9 = true then
    lti (lg_cmp o15.1 o2.1) fun v146 =>
    (if v146 = 0 then
      lti (x2 &&& 1) fun v148 =>
      Option.bind (f_X1_heightSame o13.2.2.1 o16.2.2 o13.2.2.2 o13.2.1 o16.2.1 x0r0f5 x0r0f6 4 1 v148) fun o149 =>
      (if o149 = true then
        lt (fun (v151 : Int64) =>
        lti (lg_cmp o14.1 v151) fun v153 =>
        (if v153 = 0 then
          lt (fun (v155 : Int64) =>
          lti (lg_cmp o16.1 v155) fun v157 =>
          (if v157 = 0 then
            Option.bind (f_X1_heightSame o13.2.2.1 o16.2.2 o13.2.2.2 o13.2.1 o16.2.1 x0r0f5 x0r0f6 3 0 0) fun o159 =>
            (if o159 = true then
              K144 ()
            else
              Option.bind (f_X1_sizeOrder o13.2.2.1 o16.2.2 o13.2.2.2 o13.2.1 o16.2.1 x0r0f5 x0r0f6 3 0) fun o161 =>
              (if o161 = 0 then
                Option.bind (f_X1_sizeOrder o13.2.2.1 o16.2.2 o13.2.2.2 o13.2.1 o16.2.1 x0r0f5 x0r0f6 5 2) fun o163 =>
                (if o163 = 0 then
                  K18 true
                else
                  K144 ()
                )
              else
                K144 ()
              )
            )
          else
            K144 ()
          )
          ) fun K156 =>
          (if o11 = 0 then
            K156 0
          else
            ltl (((-1) - o3.1 : Int64)) fun v166 =>
            K156 v166
          )
        else
          K144 ()
        )
        ) fun K152 =>
        (if o11 = 0 then
          K152 0
        else
          ltl (((-1) - o1.1 : Int64)) fun v168 =>
          K152 v168
        )
      else
        K144 ()
      )
    else
      K144 ()
    )
  else
    K144 ()
  )
  ) fun K10 =>
  lt (fun (_u : Unit) =>
  K10 false
  ) fun K169 =>
  (if v6 = true then
    ltl ((v8 * o2.1 : Int64)) fun v171 =>
    ltl ((o1.1 : Int64) <<< ((12 : Int32).toInt64 &&& 63)) fun v172 =>
    Option.bind (f_X0_size v8) fun o173 =>
    Option.bind (f_X0_size o2.1) fun o174 =>
    ltl ((o173 + o174 : Int64)) fun v175 =>
    ltl ((v175 + 4100 : Int64)) fun v176 =>
    Option.bind (f_X0_isNear v171 v172 v176) fun o177 =>
    (if o177 = true then
      Option.bind (f_X1_quarter x0r0r0c o3.2.2 x0r0r2c x0r0f3 o3.2.1 x0r0f5 x0r0f6 x1) fun o179 =>
      Option.bind (f_X1_heightText x0r0r0c o3.2.2 x0r0r2c x0r0f3 o3.2.1 x0r0f5 x0r0f6 0) fun o180 =>
      Option.bind (f_X0_part o180.1 o180.2 0) fun o183 =>
      ltl ((2 * o183 : Int64)) fun v184 =>
      Option.bind (f_X1_heightText x0r0r0c o3.2.2 x0r0r2c x0r0f3 o3.2.1 x0r0f5 x0r0f6 1) fun o185 =>
      Option.bind (f_X0_part o185.1 o185.2 0) fun o188 =>
      ltl ((v184 + o188 : Int64)) fun v189 =>
      lti (v189.toInt32) fun v190 =>
      (if o179 = v190 then
        K10 true
      else
        K169 ()
      )
    else
      K169 ()
    )
  else
    K169 ()
  )
  ) fun K7 =>
  lt (fun (_u : Unit) =>
  K7 false
  ) fun K192 =>
  (if 0 < v5 then
    K192 ()
  else
    Option.bind (f_X0_size o2.1) fun o194 =>
    lti (lg_cmp o194 1073741824) fun v195 =>
    (if 0 < v195 then
      K192 ()
    else
      lti (lg_cmp o3.1 (-9223372036854775808)) fun v197 =>
      (if v197 ≤ 0 then
        K192 ()
      else
        ltl ((o1.1 * o1.1 : Int64)) fun v199 =>
        ltl ((o2.1 * o2.1 : Int64)) fun v200 =>
        ltl ((v199 + v200 : Int64)) fun v201 =>
        Option.bind (f_X0_size o1.1) fun o202 =>
        Option.bind (f_X0_size o2.1) fun o203 =>
        ltl ((o202 + o203 : Int64)) fun v204 =>
        ltl ((2 * v204 : Int64)) fun v205 =>
        ltl ((v205 + 2 : Int64)) fun v206 =>
        Option.bind (f_X0_isNear v201 1152921504606846976 v206) fun o207 =>
        (if o207 = true then
          Option.bind (f_X0_areDigits x0r0r0c o3.2.2 x0r0r2c x0r0f3 o3.2.1 x0r0f5 x0r0f6 0 o1.1) fun o209 =>
          (if o209 = true then
            Option.bind (f_X0_areDigits x0r0r0c o3.2.2 x0r0r2c x0r0f3 o3.2.1 x0r0f5 x0r0f6 1 o2.1) fun o211 =>
            (if o211 = true then
              Option.bind (f_X0_areDigits x0r0r0c o3.2.2 x0r0r2c x0r0f3 o3.2.1 x0r0f5 x0r0f6 2 o3.1) fun o213 =>
              (if o213 = true then
                K7 true
              else
                K192 ()
              )
            else
              K192 ()
            )
          else
            K192 ()
          )
        else
          K192 ()
        )
      )
    )
  )
theorem hd_X0_areAnswers : Hd yX0_areAnswers 2 := by unfold Hd; decide +kernel
set_option maxHeartbeats 4000000 in
set_option maxRecDepth 100000 in
theorem m_X0_areAnswers {l : Launch} {D : DD} (x0 : Nat) (x0r0 : Nat) (x0r0r0 : Nat) (x0r0r1 : Nat) (x0r0r2 : Nat)  (x0r0r0c : Nat → UInt64) (x0r0r1c : Nat → UInt64) (x0r0r2c : Nat → Int32) (x0r0f3 : Int32) (x0r0f4 : Int32) (x0r0f5 : Int32) (x0r0f6 : Int32) (x1 : Int32) (x2 : Int32) (r : Bool × Int32 × Int32 × Int32 × (Nat → UInt64) × (Nat → UInt64) × (Nat → Int32)) (h : f_X0_areAnswers x0r0r0c x0r0r1c x0r0r2c x0r0f3 x0r0f4 x0r0f5 x0r0f6 x1 x2 = some r) : MT l D yX0_areAnswers cX0_areAnswers 22 (some .boolean) 13 1517 2996 32208 [.ref x0, .int x1, .int x2] (fun H => OA D 1 x0 [.ref x0r0] H ∧ ON D 0 x0r0 [.ref x0r0r0, .ref x0r0r1, .ref x0r0r2, .int x0r0f3, .int x0r0f4, .int x0r0f5, .int x0r0f6] H ∧ dB D ≤ x0r0 ∧ aD D x0r0r0 8 x0r0r0c H ∧ dB D ≤ x0r0r0 ∧ aD D x0r0r1 8 x0r0r1c H ∧ dB D ≤ x0r0r1 ∧ aZ D x0r0r2 8 x0r0r2c H ∧ dB D ≤ x0r0r2 ∧ x0 ≠ x0r0 ∧ x0 ≠ x0r0r0 ∧ x0 ≠ x0r0r1 ∧ x0 ≠ x0r0r2 ∧ x0r0 ≠ x0r0r0 ∧ x0r0 ≠ x0r0r1 ∧ x0r0 ≠ x0r0r2 ∧ x0r0r0 ≠ x0r0r1 ∧ x0r0r0 ≠ x0r0r2 ∧ x0r0r1 ≠ x0r0r2) (pZ (fun H b H' => b = r.1 ∧ ON D 0 x0r0 [.ref x0r0r0, .ref x0r0r1, .ref x0r0r2, .int r.2.1, .int r.2.2.1, .int r.2.2.2.1, .int x0r0f6] H' ∧ aD D x0r0r0 8 r.2.2.2.2.1 H' ∧ aD D x0r0r1 8 r.2.2.2.2.2.1 H' ∧ aZ D x0r0r2 8 r.2.2.2.2.2.2 H' ∧ Off (fun a => a = x0r0 ∨ a = x0r0r0 ∨ a = x0r0r1 ∨ a = x0r0r2) H H')) := by
  refine MT.start (by decide +kernel) (Nat.le_of_ble_eq_true rfl) ?_
  intro p e s m below meth c ls hC hS hp hl
  obtain ⟨h_x0, h_x0r0, hB_h_x0r0, h_x0r0r0, hB_h_x0r0r0, h_x0r0r1, hB_h_x0r0r1, h_x0r0r2, hB_h_x0r0r2, ne_x0_x0r0, ne_x0_x0r0r0, ne_x0_x0r0r1, ne_x0_x0r0r2, ne_x0r0_x0r0r0, ne_x0r0_x0r0r1, ne_x0r0_x0r0r2, ne_x0r0r0_x0r0r1, ne_x0r0r0_x0r0r2, ne_x0r0r1_x0r0r2⟩ := hp
  obtain ⟨hx, hb, hr, hlk, hml, hown, hts, hnm⟩ := id hC
  have hl : lv_has ls 22 [(0, .ref x0), (1, .int x1), (2, .int x2)] := hl
  unfold f_X0_areAnswers at h
  have hS0 := hS
  obtain ⟨A, eA⟩ : ∃ A : Array Value, A = [.ref x0, .int x1, .int x2].toArray := ⟨_, rfl⟩
  rw [← eA] at hC hts ⊢
  obtain ⟨Q, eQ⟩ : ∃ Q : State → Prop, Q = MQ below (TQ D (pZ (fun H b H' => b = r.1 ∧ ON D 0 x0r0 [.ref x0r0r0, .ref x0r0r1, .ref x0r0r2, .int r.2.1, .int r.2.2.1, .int r.2.2.2.1, .int x0r0f6] H' ∧ aD D x0r0r0 8 r.2.2.2.2.1 H' ∧ aD D x0r0r1 8 r.2.2.2.2.2.1 H' ∧ aZ D x0r0r2 8 r.2.2.2.2.2.2 H' ∧ Off (fun a => a = x0r0 ∨ a = x0r0r0 ∨ a = x0r0r1 ∨ a = x0r0r2) H H'))) A s 2996 32208 (fun q => dB D ≤ q) := ⟨_, rfl⟩
  have hF : Off (fun a => a = x0r0 ∨ a = x0r0r0 ∨ a = x0r0r1 ∨ a = x0r0r2) s.heap s.heap := Off.rf
  show W p l e R_X0_areAnswers s m A below meth c s.heap [] 0 0 _ _
  rw [← eQ]
  obtain ⟨H, eH⟩ : ∃ H : Heap, H = s.heap := ⟨_, rfl⟩
  obtain ⟨locs, eLc⟩ : ∃ L : List Loc, L = [] := ⟨_, rfl⟩
  have lt_h_x0 := h_x0.lt
  have lt_h_x0r0 := h_x0r0.lt
  have lt_h_x0r0r0 := h_x0r0r0.lt
  have lt_h_x0r0r1 := h_x0r0r1.lt
  have lt_h_x0r0r2 := h_x0r0r2.lt
  rw [← eH, ← eLc]
  have hF : Off (fun a => a = x0r0 ∨ a = x0r0r0 ∨ a = x0r0r1 ∨ a = x0r0r2) s.heap H := by rw [eH]; exact hF
  rw [← eH] at h_x0
  rw [← eH] at h_x0r0
  rw [← eH] at h_x0r0r0
  rw [← eH] at h_x0r0r1
  rw [← eH] at h_x0r0r2
  have hS : St D s H locs := by rw [eH, eLc]; exact hS
  refine lv_aload_n hx hb dX0_areAnswers_0 rfl (lv_at hl 0 rfl) ?_
  refine lv_iconst (v := 0) hx hb dX0_areAnswers_1 (by decide) ?_
  refine lv_iload_n hx hb dX0_areAnswers_2 rfl (lv_at hl 1 rfl) ?_
  refine lv_iconst (v := 0) hx hb dX0_areAnswers_3 (by decide) ?_
  obtain ⟨o1, eo1, h⟩ := bind_step h
  refine r_cl (r_runV (rest := []) (As := [.int 0, .int x1, .int 0]) hC 3 (m_X0_answer x0 x0r0 x0r0r0 x0r0r1 x0r0r2  x0r0r0c x0r0r1c x0r0r2c x0r0f3 x0r0f4 x0r0f5 x0r0f6 0 x1 0 o1 eo1) q1415 q1417 qs27 q39 q1418 (OA.recv hS h_x0 (C := RX0) rfl) hd_X0_answer rfl ⟨Nat.le_of_ble_eq_true rfl, Nat.le_of_ble_eq_true rfl⟩ hS ⟨h_x0, h_x0r0, hB_h_x0r0, h_x0r0r0, h_x0r0r1, hB_h_x0r0r1, h_x0r0r2, ne_x0_x0r0, ne_x0_x0r0r1, ne_x0r0_x0r0r0, ne_x0r0_x0r0r1, ne_x0r0_x0r0r2, ne_x0r0r0_x0r0r1, ne_x0r0r1_x0r0r2⟩ hl.1 rfl (Nat.le_of_ble_eq_true rfl) dX0_areAnswers_4 ⟨Nat.le_of_ble_eq_true rfl, Nat.le_of_ble_eq_true rfl⟩) hS (fun b H locs hp hS hz => ?_)
  obtain ⟨rfl, h_x0r0, h_x0r0r1, hO⟩ := hp
  have h_x0 := h_x0.off hO (fun z => by rcases z with z | z <;> first | exact ne_x0_x0r0 z | exact ne_x0_x0r0r1 z)
  have h_x0r0r0 := h_x0r0r0.off hO (fun z => by rcases z with z | z <;> first | exact (Ne.symm ne_x0r0_x0r0r0) z | exact ne_x0r0r0_x0r0r1 z)
  have h_x0r0r2 := h_x0r0r2.off hO (fun z => by rcases z with z | z <;> first | exact (Ne.symm ne_x0r0_x0r0r2) z | exact (Ne.symm ne_x0r0r1_x0r0r2) z)
  have hF := hF.fresh hO (fun a ha z => by
    rcases z with z | z
    · exact Or.inl z
    · exact Or.inr (Or.inr (Or.inl z)))
  refine lv_lstore_n (lv' := [(3, .long o1.1), (0, .ref x0), (1, .int x1), (2, .int x2)]) hx hb dX0_areAnswers_7 rfl hl (by decide) rfl (fun ls hl => ?_)
  refine lv_aload_n hx hb dX0_areAnswers_8 rfl (lv_at hl 1 rfl) ?_
  refine lv_iconst (v := 1) hx hb dX0_areAnswers_9 (by decide) ?_
  refine lv_iload_n hx hb dX0_areAnswers_10 rfl (lv_at hl 2 rfl) ?_
  refine lv_iconst (v := 1) hx hb dX0_areAnswers_11 (by decide) ?_
  obtain ⟨o2, eo2, h⟩ := bind_step h
  refine r_cl (r_runV (rest := []) (As := [.int 1, .int x1, .int 1]) hC 3 (m_X0_answer x0 x0r0 x0r0r0 x0r0r1 x0r0r2  x0r0r0c o1.2.2 x0r0r2c x0r0f3 o1.2.1 x0r0f5 x0r0f6 1 x1 1 o2 eo2) q1415 q1417 qs27 q39 q1418 (OA.recv hS h_x0 (C := RX0) rfl) hd_X0_answer rfl ⟨Nat.le_of_ble_eq_true rfl, Nat.le_of_ble_eq_true rfl⟩ hS ⟨h_x0, h_x0r0, hB_h_x0r0, h_x0r0r0, h_x0r0r1, hB_h_x0r0r1, h_x0r0r2, ne_x0_x0r0, ne_x0_x0r0r1, ne_x0r0_x0r0r0, ne_x0r0_x0r0r1, ne_x0r0_x0r0r2, ne_x0r0r0_x0r0r1, ne_x0r0r1_x0r0r2⟩ hl.1 rfl (Nat.le_of_ble_eq_true rfl) dX0_areAnswers_12 ⟨Nat.le_of_ble_eq_true rfl, Nat.le_of_ble_eq_true rfl⟩) hS (fun b H locs hp hS hz => ?_)
  obtain ⟨rfl, h_x0r0, h_x0r0r1, hO⟩ := hp
  have h_x0 := h_x0.off hO (fun z => by rcases z with z | z <;> first | exact ne_x0_x0r0 z | exact ne_x0_x0r0r1 z)
  have h_x0r0r0 := h_x0r0r0.off hO (fun z => by rcases z with z | z <;> first | exact (Ne.symm ne_x0r0_x0r0r0) z | exact ne_x0r0r0_x0r0r1 z)
  have h_x0r0r2 := h_x0r0r2.off hO (fun z => by rcases z with z | z <;> first | exact (Ne.symm ne_x0r0_x0r0r2) z | exact (Ne.symm ne_x0r0r1_x0r0r2) z)
  have hF := hF.fresh hO (fun a ha z => by
    rcases z with z | z
    · exact Or.inl z
    · exact Or.inr (Or.inr (Or.inl z)))
  refine lv_lstore (lv' := [(5, .long o2.1), (3, .long o1.1), (0, .ref x0), (1, .int x1), (2, .int x2)]) hx hb dX0_areAnswers_15 hl (by decide) rfl (fun ls hl => ?_)
  refine lv_aload_n hx hb dX0_areAnswers_17 rfl (lv_at hl 2 rfl) ?_
  refine lv_iconst (v := 2) hx hb dX0_areAnswers_18 (by decide) ?_
  refine lv_iload_n hx hb dX0_areAnswers_19 rfl (lv_at hl 3 rfl) ?_
  refine lv_iconst (v := 2) hx hb dX0_areAnswers_20 (by decide) ?_
  obtain ⟨o3, eo3, h⟩ := bind_step h
  refine r_cl (r_runV (rest := []) (As := [.int 2, .int x1, .int 2]) hC 3 (m_X0_answer x0 x0r0 x0r0r0 x0r0r1 x0r0r2  x0r0r0c o2.2.2 x0r0r2c x0r0f3 o2.2.1 x0r0f5 x0r0f6 2 x1 2 o3 eo3) q1415 q1417 qs27 q39 q1418 (OA.recv hS h_x0 (C := RX0) rfl) hd_X0_answer rfl ⟨Nat.le_of_ble_eq_true rfl, Nat.le_of_ble_eq_true rfl⟩ hS ⟨h_x0, h_x0r0, hB_h_x0r0, h_x0r0r0, h_x0r0r1, hB_h_x0r0r1, h_x0r0r2, ne_x0_x0r0, ne_x0_x0r0r1, ne_x0r0_x0r0r0, ne_x0r0_x0r0r1, ne_x0r0_x0r0r2, ne_x0r0r0_x0r0r1, ne_x0r0r1_x0r0r2⟩ hl.1 rfl (Nat.le_of_ble_eq_true rfl) dX0_areAnswers_21 ⟨Nat.le_of_ble_eq_true rfl, Nat.le_of_ble_eq_true rfl⟩) hS (fun b H locs hp hS hz => ?_)
  obtain ⟨rfl, h_x0r0, h_x0r0r1, hO⟩ := hp
  have h_x0 := h_x0.off hO (fun z => by rcases z with z | z <;> first | exact ne_x0_x0r0 z | exact ne_x0_x0r0r1 z)
  have h_x0r0r0 := h_x0r0r0.off hO (fun z => by rcases z with z | z <;> first | exact (Ne.symm ne_x0r0_x0r0r0) z | exact ne_x0r0r0_x0r0r1 z)
  have h_x0r0r2 := h_x0r0r2.off hO (fun z => by rcases z with z | z <;> first | exact (Ne.symm ne_x0r0_x0r0r2) z | exact (Ne.symm ne_x0r0r1_x0r0r2) z)
  have hF := hF.fresh hO (fun a ha z => by
    rcases z with z | z
    · exact Or.inl z
    · exact Or.inr (Or.inr (Or.inl z)))
  refine lv_lstore (lv' := [(7, .long o3.1), (5, .long o2.1), (3, .long o1.1), (0, .ref x0), (1, .int x1), (2, .int x2)]) hx hb dX0_areAnswers_24 hl (by decide) rfl (fun ls hl => ?_)
  refine lv_lload_n hx hb dX0_areAnswers_26 rfl (lv_at hl 2 rfl) ?_
  obtain ⟨o4, eo4, h⟩ := bind_step h
  refine r_cp (r_runS (rest := []) (As := [.long o1.1]) hC 1 (m_X0_size   o1.1 o4 eo4) q1522 q1523 q39 q1524 hd_X0_size rfl ⟨Nat.le_of_ble_eq_true rfl, Nat.le_of_ble_eq_true rfl⟩ hS trivial hl.1 rfl (Nat.le_of_ble_eq_true rfl) dX0_areAnswers_27 ⟨Nat.le_of_ble_eq_true rfl, Nat.le_of_ble_eq_true rfl⟩) ?_
  refine lv_ldc2 hx hb (v := 1073741824) hown (hts _ q1239) dX0_areAnswers_30 ?_
  obtain ⟨v5, ev5, h⟩ := lti_step h
  refine r_lcmp hx hb ev5 dX0_areAnswers_33 ?_
  obtain ⟨K7, eK7, h⟩ := lt_step h
  have HK7 : ∀ (v6 : Bool) (h : K7 v6 = some r) (H : Heap) (locs : List Loc) (hS : St D s H locs) (hF : Off (fun a => a = x0r0 ∨ a = x0r0r0 ∨ a = x0r0r1 ∨ a = x0r0r2) s.heap H) (h_x0 : OA D 1 x0 [.ref x0r0] H) (h_x0r0 : ON D 0 x0r0 [.ref x0r0r0, .ref x0r0r1, .ref x0r0r2, .int x0r0f3, .int o3.2.1, .int x0r0f5, .int x0r0f6] H) (h_x0r0r0 : aD D x0r0r0 8 x0r0r0c H) (h_x0r0r1 : aD D x0r0r1 8 o3.2.2 H) (h_x0r0r2 : aZ D x0r0r2 8 x0r0r2c H) (ls : Array Slot) (hl : lv_has ls 22 [(0, .ref x0), (1, .int x1), (2, .int x2), (3, .long o1.1), (5, .long o2.1), (7, .long o3.1)]), W p l e R_X0_areAnswers s m A below meth c H locs 474 5445 Q (F0 m 128 ls [.int (bI v6)]) := by
    intro v6 h H locs hS hF h_x0 h_x0r0 h_x0r0r0 h_x0r0r1 h_x0r0r2 ls hl
    subst eK7
    refine lv_istore (lv' := [(9, .int (bI v6)), (0, .ref x0), (1, .int x1), (2, .int x2), (3, .long o1.1), (5, .long o2.1), (7, .long o3.1)]) hx hb dX0_areAnswers_128 hl (by decide) rfl (fun ls hl => ?_)
    refine lv_lload hx hb dX0_areAnswers_130 (lv_at hl 6 rfl) ?_
    refine lv_bipush (v := 18) hx hb dX0_areAnswers_132 (by decide) ?_
    obtain ⟨v8, ev8, h⟩ := ltl_step h
    refine r_lshr hx hb ev8 dX0_areAnswers_134 ?_
    refine lv_lstore (lv' := [(10, .long v8), (9, .int (bI v6)), (0, .ref x0), (1, .int x1), (2, .int x2), (3, .long o1.1), (5, .long o2.1), (7, .long o3.1)]) hx hb dX0_areAnswers_135 hl (by decide) rfl (fun ls hl => ?_)
    refine lv_iload hx hb dX0_areAnswers_137 (lv_at hl 1 rfl) ?_
    obtain ⟨K10, eK10, h⟩ := lt_step h
    have HK10 : ∀ (v9 : Bool) (h : K10 v9 = some r) (H : Heap) (locs : List Loc) (hS : St D s H locs) (hF : Off (fun a => a = x0r0 ∨ a = x0r0r0 ∨ a = x0r0r1 ∨ a = x0r0r2) s.heap H) (h_x0 : OA D 1 x0 [.ref x0r0] H) (h_x0r0 : ON D 0 x0r0 [.ref x0r0r0, .ref x0r0r1, .ref x0r0r2, .int x0r0f3, .int o3.2.1, .int x0r0f5, .int x0r0f6] H) (h_x0r0r0 : aD D x0r0r0 8 x0r0r0c H) (h_x0r0r1 : aD D x0r0r1 8 o3.2.2 H) (h_x0r0r2 : aZ D x0r0r2 8 x0r0r2c H) (ls : Array Slot) (hl : lv_has ls 22 [(0, .ref x0), (1, .int x1), (2, .int x2), (3, .long o1.1), (5, .long o2.1), (7, .long o3.1)]), W p l e R_X0_areAnswers s m A below meth c H locs 500 5959 Q (F0 m 218 ls [.int (bI v9)]) := by
      intro v9 h H locs hS hF h_x0 h_x0r0 h_x0r0r0 h_x0r0r1 h_x0r0r2 ls hl
      subst eK10
      refine lv_istore (lv' := [(9, .int (bI v9)), (0, .ref x0), (1, .int x1), (2, .int x2), (3, .long o1.1), (5, .long o2.1), (7, .long o3.1)]) hx hb dX0_areAnswers_218 hl (by decide) rfl (fun ls hl => ?_)
      refine lv_aload_n hx hb dX0_areAnswers_220 rfl (lv_at hl 1 rfl) ?_
      refine r_get hx hb hts hown hS h_x0 rfl in_X0 0 (by decide) q936 rfl (v := .ref x0r0) rfl dX0_areAnswers_221 ?_
      refine lv_iload_n hx hb dX0_areAnswers_224 rfl (lv_at hl 2 rfl) ?_
      obtain ⟨o11, eo11, h⟩ := bind_step h
      refine r_cp (r_runV (rest := []) (As := [.int x1]) hC 1 (m_X1_angleEighths x0r0 x0r0r0 x0r0r1 x0r0r2  x0r0r0c o3.2.2 x0r0r2c x0r0f3 o3.2.1 x0r0f5 x0r0f6 x1 o11 eo11) q1501 q1502 q1503 q46 q1504 (OA.recv hS h_x0r0.OA (C := RX1) rfl) hd_X1_angleEighths rfl ⟨Nat.le_of_ble_eq_true rfl, Nat.le_of_ble_eq_true rfl⟩ hS ⟨h_x0r0, h_x0r0r0, h_x0r0r1, h_x0r0r2⟩ hl.1 rfl (Nat.le_of_ble_eq_true rfl) dX0_areAnswers_225 ⟨Nat.le_of_ble_eq_true rfl, Nat.le_of_ble_eq_true rfl⟩) ?_
      refine lv_istore (lv' := [(12, .int o11), (9, .int (bI v9)), (0, .ref x0), (1, .int x1), (2, .int x2), (3, .long o1.1), (5, .long o2.1), (7, .long o3.1)]) hx hb dX0_areAnswers_228 hl (by decide) rfl (fun ls hl => ?_)
      refine lv_aload_n hx hb dX0_areAnswers_230 rfl (lv_at hl 2 rfl) ?_
      refine r_get hx hb hts hown hS h_x0 rfl in_X0 0 (by decide) q936 rfl (v := .ref x0r0) rfl dX0_areAnswers_231 ?_
      refine lv_iload_n hx hb dX0_areAnswers_234 rfl (lv_at hl 3 rfl) ?_
      refine lv_bipush (v := 7) hx hb dX0_areAnswers_235 (by decide) ?_
      obtain ⟨o12, eo12, h⟩ := bind_step h
      refine r_ci (r_runV (rest := []) (As := [.int x1, .int 7]) hC 2 (m_X1_angleCopy x0r0 x0r0r0 x0r0r1 x0r0r2  x0r0r0c o3.2.2 x0r0r2c x0r0f3 o3.2.1 x0r0f5 x0r0f6 x1 7 o12 eo12) q1514 q1515 q1516 q46 q1517 (OA.recv hS h_x0r0.OA (C := RX1) rfl) hd_X1_angleCopy rfl ⟨Nat.le_of_ble_eq_true rfl, Nat.le_of_ble_eq_true rfl⟩ hS ⟨h_x0r0, hB_h_x0r0, h_x0r0r0, hB_h_x0r0r0, h_x0r0r1, h_x0r0r2, hB_h_x0r0r2, ne_x0r0_x0r0r0, ne_x0r0_x0r0r1, ne_x0r0_x0r0r2, ne_x0r0r0_x0r0r1, ne_x0r0r0_x0r0r2, ne_x0r0r1_x0r0r2⟩ hl.1 rfl (Nat.le_of_ble_eq_true rfl) dX0_areAnswers_237 ⟨Nat.le_of_ble_eq_true rfl, Nat.le_of_ble_eq_true rfl⟩) hS (fun b H locs hp hS hz => ?_)
      obtain ⟨rfl, h_x0r0, h_x0r0r0, h_x0r0r2, hO⟩ := hp
      have h_x0 := h_x0.off hO (fun z => by rcases z with z | z | z <;> first | exact ne_x0_x0r0 z | exact ne_x0_x0r0r0 z | exact ne_x0_x0r0r2 z)
      have h_x0r0r1 := h_x0r0r1.off hO (fun z => by rcases z with z | z | z <;> first | exact (Ne.symm ne_x0r0_x0r0r1) z | exact (Ne.symm ne_x0r0r0_x0r0r1) z | exact ne_x0r0r1_x0r0r2 z)
      have hF := hF.fresh hO (fun a ha z => by
        rcases z with z | z | z
        · exact Or.inl z
        · exact Or.inr (Or.inl z)
        · exact Or.inr (Or.inr (Or.inr (z))))
      refine lv_pop hx hb dX0_areAnswers_240 rfl ?_
      refine lv_aload_n hx hb dX0_areAnswers_241 rfl (lv_at hl 2 rfl) ?_
      refine r_get hx hb hts hown hS h_x0 rfl in_X0 0 (by decide) q936 rfl (v := .ref x0r0) rfl dX0_areAnswers_242 ?_
      refine lv_bipush (v := 7) hx hb dX0_areAnswers_245 (by decide) ?_
      obtain ⟨o13, eo13, h⟩ := bind_step h
      refine r_ci (r_runV (rest := []) (As := [.int 7]) hC 1 (m_X1_angleTurn x0r0 x0r0r0 x0r0r1 x0r0r2  o12.2.2.1 o3.2.2 o12.2.2.2 o12.2.1 o3.2.1 x0r0f5 x0r0f6 7 o13 eo13) q1528 q1529 q1530 q46 q1531 (OA.recv hS h_x0r0.OA (C := RX1) rfl) hd_X1_angleTurn rfl ⟨Nat.le_of_ble_eq_true rfl, Nat.le_of_ble_eq_true rfl⟩ hS ⟨h_x0r0, hB_h_x0r0, h_x0r0r0, hB_h_x0r0r0, h_x0r0r1, h_x0r0r2, hB_h_x0r0r2, ne_x0r0_x0r0r0, ne_x0r0_x0r0r1, ne_x0r0_x0r0r2, ne_x0r0r0_x0r0r1, ne_x0r0r0_x0r0r2, ne_x0r0r1_x0r0r2⟩ hl.1 rfl (Nat.le_of_ble_eq_true rfl) dX0_areAnswers_247 ⟨Nat.le_of_ble_eq_true rfl, Nat.le_of_ble_eq_true rfl⟩) hS (fun b H locs hp hS hz => ?_)
      obtain ⟨rfl, h_x0r0, h_x0r0r0, h_x0r0r2, hO⟩ := hp
      have h_x0 := h_x0.off hO (fun z => by rcases z with z | z | z <;> first | exact ne_x0_x0r0 z | exact ne_x0_x0r0r0 z | exact ne_x0_x0r0r2 z)
      have h_x0r0r1 := h_x0r0r1.off hO (fun z => by rcases z with z | z | z <;> first | exact (Ne.symm ne_x0r0_x0r0r1) z | exact (Ne.symm ne_x0r0r0_x0r0r1) z | exact ne_x0r0r1_x0r0r2 z)
      have hF := hF.fresh hO (fun a ha z => by
        rcases z with z | z | z
        · exact Or.inl z
        · exact Or.inr (Or.inl z)
        · exact Or.inr (Or.inr (Or.inr (z))))
      refine lv_pop hx hb dX0_areAnswers_250 rfl ?_
      refine lv_aload_n hx hb dX0_areAnswers_251 rfl (lv_at hl 2 rfl) ?_
      refine lv_iconst (v := 0) hx hb dX0_areAnswers_252 (by decide) ?_
      refine lv_bipush (v := 7) hx hb dX0_areAnswers_253 (by decide) ?_
      refine lv_iconst (v := 3) hx hb dX0_areAnswers_255 (by decide) ?_
      obtain ⟨o14, eo14, h⟩ := bind_step h
      refine r_cl (r_runV (rest := []) (As := [.int 0, .int 7, .int 3]) hC 3 (m_X0_answer x0 x0r0 x0r0r0 x0r0r1 x0r0r2  o13.2.2.1 o3.2.2 o13.2.2.2 o13.2.1 o3.2.1 x0r0f5 x0r0f6 0 7 3 o14 eo14) q1415 q1417 qs27 q39 q1418 (OA.recv hS h_x0 (C := RX0) rfl) hd_X0_answer rfl ⟨Nat.le_of_ble_eq_true rfl, Nat.le_of_ble_eq_true rfl⟩ hS ⟨h_x0, h_x0r0, hB_h_x0r0, h_x0r0r0, h_x0r0r1, hB_h_x0r0r1, h_x0r0r2, ne_x0_x0r0, ne_x0_x0r0r1, ne_x0r0_x0r0r0, ne_x0r0_x0r0r1, ne_x0r0_x0r0r2, ne_x0r0r0_x0r0r1, ne_x0r0r1_x0r0r2⟩ hl.1 rfl (Nat.le_of_ble_eq_true rfl) dX0_areAnswers_256 ⟨Nat.le_of_ble_eq_true rfl, Nat.le_of_ble_eq_true rfl⟩) hS (fun b H locs hp hS hz => ?_)
      obtain ⟨rfl, h_x0r0, h_x0r0r1, hO⟩ := hp
      have h_x0 := h_x0.off hO (fun z => by rcases z with z | z <;> first | exact ne_x0_x0r0 z | exact ne_x0_x0r0r1 z)
      have h_x0r0r0 := h_x0r0r0.off hO (fun z => by rcases z with z | z <;> first | exact (Ne.symm ne_x0r0_x0r0r0) z | exact ne_x0r0r0_x0r0r1 z)
      have h_x0r0r2 := h_x0r0r2.off hO (fun z => by rcases z with z | z <;> first | exact (Ne.symm ne_x0r0_x0r0r2) z | exact (Ne.symm ne_x0r0r1_x0r0r2) z)
      have hF := hF.fresh hO (fun a ha z => by
        rcases z with z | z
        · exact Or.inl z
        · exact Or.inr (Or.inr (Or.inl z)))
      refine lv_lstore (lv' := [(13, .long o14.1), (12, .int o11), (9, .int (bI v9)), (0, .ref x0), (1, .int x1), (2, .int x2), (3, .long o1.1), (5, .long o2.1), (7, .long o3.1)]) hx hb dX0_areAnswers_259 hl (by decide) rfl (fun ls hl => ?_)
      refine lv_aload_n hx hb dX0_areAnswers_261 rfl (lv_at hl 3 rfl) ?_
      refine lv_iconst (v := 1) hx hb dX0_areAnswers_262 (by decide) ?_
      refine lv_bipush (v := 7) hx hb dX0_areAnswers_263 (by decide) ?_
      refine lv_iconst (v := 4) hx hb dX0_areAnswers_265 (by decide) ?_
      obtain ⟨o15, eo15, h⟩ := bind_step h
      refine r_cl (r_runV (rest := []) (As := [.int 1, .int 7, .int 4]) hC 3 (m_X0_answer x0 x0r0 x0r0r0 x0r0r1 x0r0r2  o13.2.2.1 o14.2.2 o13.2.2.2 o13.2.1 o14.2.1 x0r0f5 x0r0f6 1 7 4 o15 eo15) q1415 q1417 qs27 q39 q1418 (OA.recv hS h_x0 (C := RX0) rfl) hd_X0_answer rfl ⟨Nat.le_of_ble_eq_true rfl, Nat.le_of_ble_eq_true rfl⟩ hS ⟨h_x0, h_x0r0, hB_h_x0r0, h_x0r0r0, h_x0r0r1, hB_h_x0r0r1, h_x0r0r2, ne_x0_x0r0, ne_x0_x0r0r1, ne_x0r0_x0r0r0, ne_x0r0_x0r0r1, ne_x0r0_x0r0r2, ne_x0r0r0_x0r0r1, ne_x0r0r1_x0r0r2⟩ hl.1 rfl (Nat.le_of_ble_eq_true rfl) dX0_areAnswers_266 ⟨Nat.le_of_ble_eq_true rfl, Nat.le_of_ble_eq_true rfl⟩) hS (fun b H locs hp hS hz => ?_)
      obtain ⟨rfl, h_x0r0, h_x0r0r1, hO⟩ := hp
      have h_x0 := h_x0.off hO (fun z => by rcases z with z | z <;> first | exact ne_x0_x0r0 z | exact ne_x0_x0r0r1 z)
      have h_x0r0r0 := h_x0r0r0.off hO (fun z => by rcases z with z | z <;> first | exact (Ne.symm ne_x0r0_x0r0r0) z | exact ne_x0r0r0_x0r0r1 z)
      have h_x0r0r2 := h_x0r0r2.off hO (fun z => by rcases z with z | z <;> first | exact (Ne.symm ne_x0r0_x0r0r2) z | exact (Ne.symm ne_x0r0r1_x0r0r2) z)
      have hF := hF.fresh hO (fun a ha z => by
        rcases z with z | z
        · exact Or.inl z
        · exact Or.inr (Or.inr (Or.inl z)))
      refine lv_lstore (lv' := [(15, .long o15.1), (13, .long o14.1), (12, .int o11), (9, .int (bI v9)), (0, .ref x0), (1, .int x1), (2, .int x2), (3, .long o1.1), (5, .long o2.1), (7, .long o3.1)]) hx hb dX0_areAnswers_269 hl (by decide) rfl (fun ls hl => ?_)
      refine lv_aload_n hx hb dX0_areAnswers_271 rfl (lv_at hl 4 rfl) ?_
      refine lv_iconst (v := 2) hx hb dX0_areAnswers_272 (by decide) ?_
      refine lv_bipush (v := 7) hx hb dX0_areAnswers_273 (by decide) ?_
      refine lv_iconst (v := 5) hx hb dX0_areAnswers_275 (by decide) ?_
      obtain ⟨o16, eo16, h⟩ := bind_step h
      refine r_cl (r_runV (rest := []) (As := [.int 2, .int 7, .int 5]) hC 3 (m_X0_answer x0 x0r0 x0r0r0 x0r0r1 x0r0r2  o13.2.2.1 o15.2.2 o13.2.2.2 o13.2.1 o15.2.1 x0r0f5 x0r0f6 2 7 5 o16 eo16) q1415 q1417 qs27 q39 q1418 (OA.recv hS h_x0 (C := RX0) rfl) hd_X0_answer rfl ⟨Nat.le_of_ble_eq_true rfl, Nat.le_of_ble_eq_true rfl⟩ hS ⟨h_x0, h_x0r0, hB_h_x0r0, h_x0r0r0, h_x0r0r1, hB_h_x0r0r1, h_x0r0r2, ne_x0_x0r0, ne_x0_x0r0r1, ne_x0r0_x0r0r0, ne_x0r0_x0r0r1, ne_x0r0_x0r0r2, ne_x0r0r0_x0r0r1, ne_x0r0r1_x0r0r2⟩ hl.1 rfl (Nat.le_of_ble_eq_true rfl) dX0_areAnswers_276 ⟨Nat.le_of_ble_eq_true rfl, Nat.le_of_ble_eq_true rfl⟩) hS (fun b H locs hp hS hz => ?_)
      obtain ⟨rfl, h_x0r0, h_x0r0r1, hO⟩ := hp
      have h_x0 := h_x0.off hO (fun z => by rcases z with z | z <;> first | exact ne_x0_x0r0 z | exact ne_x0_x0r0r1 z)
      have h_x0r0r0 := h_x0r0r0.off hO (fun z => by rcases z with z | z <;> first | exact (Ne.symm ne_x0r0_x0r0r0) z | exact ne_x0r0r0_x0r0r1 z)
      have h_x0r0r2 := h_x0r0r2.off hO (fun z => by rcases z with z | z <;> first | exact (Ne.symm ne_x0r0_x0r0r2) z | exact (Ne.symm ne_x0r0r1_x0r0r2) z)
      have hF := hF.fresh hO (fun a ha z => by
        rcases z with z | z
        · exact Or.inl z
        · exact Or.inr (Or.inr (Or.inl z)))
      refine lv_lstore (lv' := [(17, .long o16.1), (15, .long o15.1), (13, .long o14.1), (12, .int o11), (9, .int (bI v9)), (0, .ref x0), (1, .int x1), (2, .int x2), (3, .long o1.1), (5, .long o2.1), (7, .long o3.1)]) hx hb dX0_areAnswers_279 hl (by decide) rfl (fun ls hl => ?_)
      refine lv_iload hx hb dX0_areAnswers_281 (lv_at hl 4 rfl) ?_
      obtain ⟨K18, eK18, h⟩ := lt_step h
      have HK18 : ∀ (v17 : Bool) (h : K18 v17 = some r) (H : Heap) (locs : List Loc) (hS : St D s H locs) (hF : Off (fun a => a = x0r0 ∨ a = x0r0r0 ∨ a = x0r0r1 ∨ a = x0r0r2) s.heap H) (h_x0 : OA D 1 x0 [.ref x0r0] H) (h_x0r0 : ON D 0 x0r0 [.ref x0r0r0, .ref x0r0r1, .ref x0r0r2, .int o13.2.1, .int o16.2.1, .int x0r0f5, .int x0r0f6] H) (h_x0r0r0 : aD D x0r0r0 8 o13.2.2.1 H) (h_x0r0r1 : aD D x0r0r1 8 o16.2.2 H) (h_x0r0r2 : aZ D x0r0r2 8 o13.2.2.2 H) (ls : Array Slot) (hl : lv_has ls 22 [(0, .ref x0), (1, .int x1), (2, .int x2), (3, .long o1.1), (5, .long o2.1), (12, .int o11)]), W p l e R_X0_areAnswers s m A below meth c H locs 1485 15860 Q (F0 m 392 ls [.int (bI v17)]) := by
        intro v17 h H locs hS hF h_x0 h_x0r0 h_x0r0r0 h_x0r0r1 h_x0r0r2 ls hl
        subst eK18
        refine lv_istore (lv' := [(9, .int (bI v17)), (0, .ref x0), (1, .int x1), (2, .int x2), (3, .long o1.1), (5, .long o2.1), (12, .int o11)]) hx hb dX0_areAnswers_392 hl (by decide) rfl (fun ls hl => ?_)
        refine lv_iload hx hb dX0_areAnswers_394 (lv_at hl 0 rfl) ?_
        obtain ⟨K22, eK22, h⟩ := lt_step h
        have HK22 : ∀ (f19 : Nat → UInt64) (v20 : Int32) (v21 : Bool) (h : K22 f19 v20 v21 = some r) (H : Heap) (locs : List Loc) (hS : St D s H locs) (hF : Off (fun a => a = x0r0 ∨ a = x0r0r0 ∨ a = x0r0r1 ∨ a = x0r0r2) s.heap H) (h_x0 : OA D 1 x0 [.ref x0r0] H) (h_x0r0 : ON D 0 x0r0 [.ref x0r0r0, .ref x0r0r1, .ref x0r0r2, .int o13.2.1, .int v20, .int x0r0f5, .int x0r0f6] H) (h_x0r0r0 : aD D x0r0r0 8 o13.2.2.1 H) (h_x0r0r1 : aD D x0r0r1 8 f19 H) (h_x0r0r2 : aZ D x0r0r2 8 o13.2.2.2 H) (ls : Array Slot) (hl : lv_has ls 22 [(0, .ref x0), (1, .int x1), (2, .int x2), (3, .long o1.1), (5, .long o2.1), (12, .int o11)]), W p l e R_X0_areAnswers s m A below meth c H locs 1519 16382 Q (F0 m 507 ls [.int (bI v21)]) := by
          intro f19 v20 v21 h H locs hS hF h_x0 h_x0r0 h_x0r0r0 h_x0r0r1 h_x0r0r2 ls hl
          subst eK22
          refine lv_istore (lv' := [(9, .int (bI v21)), (0, .ref x0), (1, .int x1), (2, .int x2), (3, .long o1.1), (5, .long o2.1), (12, .int o11)]) hx hb dX0_areAnswers_507 hl (by decide) rfl (fun ls hl => ?_)
          refine lv_iconst (v := 0) hx hb dX0_areAnswers_509 (by decide) ?_
          refine lv_istore (lv' := [(19, .int 0), (9, .int (bI v21)), (0, .ref x0), (1, .int x1), (2, .int x2), (3, .long o1.1), (5, .long o2.1), (12, .int o11)]) hx hb dX0_areAnswers_510 hl (by decide) rfl (fun ls hl => ?_)
          obtain ⟨F40, eF40, h⟩ := lt_step h
          obtain ⟨w41, ew41, h⟩ := bind_step h
          obtain ⟨CE, eCE⟩ : ∃ x : Nat, x = 1519 + 378 := ⟨_, rfl⟩
          obtain ⟨SE, eSE⟩ : ∃ x : Nat, x = 16382 + 4644 := ⟨_, rfl⟩
          have hCE : CE ≤ R_X0_areAnswers.cells := (by rw [eCE]; exact Nat.le_of_ble_eq_true rfl)
          have hSE : SE ≤ R_X0_areAnswers.slots := (by rw [eSE]; exact Nat.le_of_ble_eq_true rfl)
          have HL : ∀ (n : Nat) (v23 : Bool) (v24 : Int32) (w41 : Bool) (hk0 : lp n (fun x => F40 x.1 x.2) (v23, v24) = some w41) (cl : Nat) (sl : Nat) (hcl : cl + 42 * n ≤ CE) (hsl : sl + 516 * n ≤ SE) (H : Heap) (locs : List Loc) (hS : St D s H locs) (hF : Off (fun a => a = x0r0 ∨ a = x0r0r0 ∨ a = x0r0r1 ∨ a = x0r0r2) s.heap H) (h_x0 : OA D 1 x0 [.ref x0r0] H) (h_x0r0 : ON D 0 x0r0 [.ref x0r0r0, .ref x0r0r1, .ref x0r0r2, .int o13.2.1, .int v20, .int x0r0f5, .int x0r0f6] H) (h_x0r0r0 : aD D x0r0r0 8 o13.2.2.1 H) (h_x0r0r1 : aD D x0r0r1 8 f19 H) (h_x0r0r2 : aZ D x0r0r2 8 o13.2.2.2 H) (ls : Array Slot) (hl : lv_has ls 22 [(0, .ref x0), (1, .int x1), (2, .int x2), (3, .long o1.1), (5, .long o2.1), (9, .int (bI v23)), (12, .int o11), (19, .int v24)]) (K585 : ∀ (H : Heap) (locs : List Loc) (hS : St D s H locs) (hF : Off (fun a => a = x0r0 ∨ a = x0r0r0 ∨ a = x0r0r1 ∨ a = x0r0r2) s.heap H) (h_x0 : OA D 1 x0 [.ref x0r0] H) (h_x0r0 : ON D 0 x0r0 [.ref x0r0r0, .ref x0r0r1, .ref x0r0r2, .int o13.2.1, .int v20, .int x0r0f5, .int x0r0f6] H) (h_x0r0r0 : aD D x0r0r0 8 o13.2.2.1 H) (h_x0r0r1 : aD D x0r0r1 8 f19 H) (h_x0r0r2 : aZ D x0r0r2 8 o13.2.2.2 H) (ls : Array Slot) (hl : lv_has ls 22 [(0, .ref x0), (1, .int x1), (2, .int x2), (3, .long o1.1), (5, .long o2.1), (9, .int (bI w41)), (12, .int o11)]), W p l e R_X0_areAnswers s m A below meth c H locs CE SE Q (F0 m 585 ls [])), W p l e R_X0_areAnswers s m A below meth c H locs cl sl Q (F0 m 512 ls []) := by
            intro n
            induction n with
            | zero => intro v23 v24 w41 hk0 cl sl hcl hsl H locs hS hF h_x0 h_x0r0 h_x0r0r0 h_x0r0r1 h_x0r0r2 ls hl K585; exact lp_zero hk0
            | succ n ih =>
              intro v23 v24 w41 hk0 cl sl hcl hsl H locs hS hF h_x0 h_x0r0 h_x0r0r0 h_x0r0r1 h_x0r0r2 ls hl K585
              obtain ⟨z42, hz, hk⟩ := lp_step hk0
              have h := (congrFun (congrFun (eF40) v23) v24).symm.trans hz
              have hcO : cl + 42 ≤ CE := al_out hcl
              have hcE : cl + 42 ≤ R_X0_areAnswers.cells := Nat.le_trans hcO hCE
              have hcN : ∀ a, a ≤ 42 → cl + a + 42 * n ≤ CE := fun a ha => al_next hcl ha
              have hcN0 : cl + 42 * n ≤ CE := al_next hcl (Nat.zero_le _)
              have hsO : sl + 516 ≤ SE := al_out hsl
              have hsE : sl + 516 ≤ R_X0_areAnswers.slots := Nat.le_trans hsO hSE
              have hsN : ∀ a, a ≤ 516 → sl + a + 516 * n ≤ SE := fun a ha => al_next hsl ha
              have hsN0 : sl + 516 * n ≤ SE := al_next hsl (Nat.zero_le _)
              clear hcl hsl
              refine lv_iload hx hb dX0_areAnswers_512 (lv_at hl 7 rfl) ?_
              refine lv_iconst (v := 3) hx hb dX0_areAnswers_514 (by decide) ?_
              refine lv_icmp_ge (tgt := 585) hx hb dX0_areAnswers_515 (by decide) (fun c43 => ?_) (fun c43 => ?_)
              · have h := it_pos h c43
                obtain rfl := Option.some.inj h
                obtain rfl := id hk
                refine W.widen (k := CE) (n := SE) (by omega) (by omega) ?_
                exact K585 H locs hS hF h_x0 h_x0r0 h_x0r0r0 h_x0r0r1 h_x0r0r2 ls (lv_sub hl [0, 1, 2, 3, 4, 5, 6] rfl)
              · have h := it_neg h c43
                refine lv_iload hx hb dX0_areAnswers_518 (lv_at hl 5 rfl) ?_
                obtain ⟨K45, eK45, h⟩ := lt_step h
                have HK45 : ∀ (v44 : Bool) (h : K45 v44 = some z42) (H : Heap) (locs : List Loc) (hS : St D s H locs) (hF : Off (fun a => a = x0r0 ∨ a = x0r0r0 ∨ a = x0r0r1 ∨ a = x0r0r2) s.heap H) (h_x0 : OA D 1 x0 [.ref x0r0] H) (h_x0r0 : ON D 0 x0r0 [.ref x0r0r0, .ref x0r0r1, .ref x0r0r2, .int o13.2.1, .int v20, .int x0r0f5, .int x0r0f6] H) (h_x0r0r0 : aD D x0r0r0 8 o13.2.2.1 H) (h_x0r0r1 : aD D x0r0r1 8 f19 H) (h_x0r0r2 : aZ D x0r0r2 8 o13.2.2.2 H) (ls : Array Slot) (hl : lv_has ls 22 [(0, .ref x0), (1, .int x1), (2, .int x2), (3, .long o1.1), (5, .long o2.1), (12, .int o11), (19, .int v24)]), W p l e R_X0_areAnswers s m A below meth c H locs (cl + 42) (sl + 516) Q (F0 m 577 ls [.int (bI v44)]) := by
                  intro v44 h H locs hS hF h_x0 h_x0r0 h_x0r0r0 h_x0r0r1 h_x0r0r2 ls hl
                  subst eK45
                  refine lv_istore (lv' := [(9, .int (bI v44)), (0, .ref x0), (1, .int x1), (2, .int x2), (3, .long o1.1), (5, .long o2.1), (12, .int o11), (19, .int v24)]) hx hb dX0_areAnswers_577 hl (by decide) rfl (fun ls hl => ?_)
                  obtain ⟨v46, ev46, h⟩ := lti_step h
                  refine lv_iinc (v := v46) (lv' := [(19, .int v46), (9, .int (bI v44)), (0, .ref x0), (1, .int x1), (2, .int x2), (3, .long o1.1), (5, .long o2.1), (12, .int o11)]) hx hb dX0_areAnswers_579 hl (k := 7) rfl (by rw [ev46]; rfl) (by decide) rfl (fun ls hl => ?_)
                  refine lv_goto (tgt := 512) hx hb dX0_areAnswers_582 (by decide) ?_
                  obtain rfl := Option.some.inj h
                  exact ih v44 v46 w41 hk _ _ (hcN 42 (Nat.le_of_ble_eq_true rfl)) (hsN 516 (Nat.le_of_ble_eq_true rfl)) H locs hS hF h_x0 h_x0r0 h_x0r0r0 h_x0r0r1 h_x0r0r2 ls (lv_sub hl [2, 3, 4, 5, 6, 1, 7, 0] rfl) K585
                clear eK45
                obtain ⟨K47, eK47, h⟩ := lt_step h
                have HK47 : ∀  (h : K47 () = some z42) (H : Heap) (locs : List Loc) (hS : St D s H locs) (hF : Off (fun a => a = x0r0 ∨ a = x0r0r0 ∨ a = x0r0r1 ∨ a = x0r0r2) s.heap H) (h_x0 : OA D 1 x0 [.ref x0r0] H) (h_x0r0 : ON D 0 x0r0 [.ref x0r0r0, .ref x0r0r1, .ref x0r0r2, .int o13.2.1, .int v20, .int x0r0f5, .int x0r0f6] H) (h_x0r0r0 : aD D x0r0r0 8 o13.2.2.1 H) (h_x0r0r1 : aD D x0r0r1 8 f19 H) (h_x0r0r2 : aZ D x0r0r2 8 o13.2.2.2 H) (ls : Array Slot) (hl : lv_has ls 22 [(0, .ref x0), (1, .int x1), (2, .int x2), (3, .long o1.1), (5, .long o2.1), (12, .int o11), (19, .int v24)]), W p l e R_X0_areAnswers s m A below meth c H locs (cl + 42) (sl + 516) Q (F0 m 576 ls []) := by
                  intro h H locs hS hF h_x0 h_x0r0 h_x0r0r0 h_x0r0r1 h_x0r0r2 ls hl
                  subst eK47
                  refine lv_iconst (v := 0) hx hb dX0_areAnswers_576 (by decide) ?_
                  exact HK45 false h H locs hS hF h_x0 h_x0r0 h_x0r0r0 h_x0r0r1 h_x0r0r2 ls (lv_sub hl [0, 1, 2, 3, 4, 5, 6] rfl)
                clear eK47
                refine r_ifz_eq (tgt := 576) hx hb dX0_areAnswers_520 (by decide) (fun c48 => ?_) (fun c48 => ?_)
                · have h := it_neg h (by rw [c48]; decide)
                  refine W.widen (k := cl + 42) (n := sl + 516) (by omega) (by omega) ?_
                  exact HK47  h H locs hS hF h_x0 h_x0r0 h_x0r0r0 h_x0r0r1 h_x0r0r2 ls (lv_sub hl [0, 1, 2, 3, 4, 6, 7] rfl)
                · have h := it_pos h (by rw [c48])
                  refine lv_aload_n hx hb dX0_areAnswers_523 rfl (lv_at hl 0 rfl) ?_
                  refine r_get hx hb hts hown hS h_x0 rfl in_X0 0 (by decide) q936 rfl (v := .ref x0r0) rfl dX0_areAnswers_524 ?_
                  refine lv_iload_n hx hb dX0_areAnswers_527 rfl (lv_at hl 1 rfl) ?_
                  refine lv_iload hx hb dX0_areAnswers_528 (lv_at hl 7 rfl) ?_
                  refine lv_iload_n hx hb dX0_areAnswers_530 rfl (lv_at hl 2 rfl) ?_
                  refine lv_iload hx hb dX0_areAnswers_531 (lv_at hl 7 rfl) ?_
                  obtain ⟨v49, ev49, h⟩ := lti_step h
                  refine r_ishr hx hb ev49 dX0_areAnswers_533 ?_
                  refine lv_iconst (v := 3) hx hb dX0_areAnswers_534 (by decide) ?_
                  obtain ⟨o50, eo50, h⟩ := bind_step h
                  refine r_cp (r_runS (rest := [.int v24, .int x1, .ref x0r0]) (As := [.int v49, .int 3]) hC 2 (m_X0_some   v49 3 o50 eo50) q1244 q1245 q39 q1246 hd_X0_some rfl ⟨Nat.le_of_ble_eq_true rfl, Nat.le_of_ble_eq_true rfl⟩ hS trivial hl.1 rfl (Nat.le_of_ble_eq_true rfl) dX0_areAnswers_535 ⟨by have := hcE; have := hsE; omega, by have := hcE; have := hsE; omega⟩) ?_
                  obtain ⟨o51, eo51, h⟩ := bind_step h
                  refine r_cz (r_runV (rest := []) (As := [.int x1, .int v24, .int o50]) hC 3 (m_X1_isMirrored x0r0 x0r0r0 x0r0r1 x0r0r2  o13.2.2.1 f19 o13.2.2.2 o13.2.1 v20 x0r0f5 x0r0f6 x1 v24 o50 o51 eo51) q1572 q1573 q1574 q46 q1575 (OA.recv hS h_x0r0.OA (C := RX1) rfl) hd_X1_isMirrored rfl ⟨Nat.le_of_ble_eq_true rfl, Nat.le_of_ble_eq_true rfl⟩ hS ⟨h_x0r0, h_x0r0r0, h_x0r0r1, h_x0r0r2⟩ hl.1 rfl (Nat.le_of_ble_eq_true rfl) dX0_areAnswers_538 ⟨by have := hcE; have := hsE; omega, by have := hcE; have := hsE; omega⟩) hS (fun b H locs hp hS hz => ?_)
                  obtain ⟨eb_, hO⟩ := hp
                  rw [eb_]
                  have h_x0 := h_x0.ext hO
                  have h_x0r0 := h_x0r0.ext hO
                  have h_x0r0r0 := h_x0r0r0.ext hO
                  have h_x0r0r1 := h_x0r0r1.ext hO
                  have h_x0r0r2 := h_x0r0r2.ext hO
                  have hF := hF.trans (hO.mono (fun _ _ z => z.elim))
                  refine r_ifz_eq (tgt := 576) hx hb dX0_areAnswers_541 (by decide) (fun c52 => ?_) (fun c52 => ?_)
                  · have h := it_neg h (by rw [c52]; decide)
                    refine W.widen (k := cl + 42) (n := sl + 516) (by omega) (by omega) ?_
                    exact HK47  h H locs hS hF h_x0 h_x0r0 h_x0r0r0 h_x0r0r1 h_x0r0r2 ls (lv_sub hl [0, 1, 2, 3, 4, 6, 7] rfl)
                  · have h := it_pos h (by rw [c52])
                    refine lv_aload_n hx hb dX0_areAnswers_544 rfl (lv_at hl 0 rfl) ?_
                    refine r_get hx hb hts hown hS h_x0 rfl in_X0 0 (by decide) q936 rfl (v := .ref x0r0) rfl dX0_areAnswers_545 ?_
                    refine lv_iload hx hb dX0_areAnswers_548 (lv_at hl 7 rfl) ?_
                    refine lv_iload_n hx hb dX0_areAnswers_550 rfl (lv_at hl 1 rfl) ?_
                    refine lv_bipush (v := 7) hx hb dX0_areAnswers_551 (by decide) ?_
                    obtain ⟨o53, eo53, h⟩ := bind_step h
                    refine r_ci (r_runV (rest := []) (As := [.int v24, .int x1, .int 7]) hC 3 (m_X1_order x0r0 x0r0r0 x0r0r1 x0r0r2  o13.2.2.1 f19 o13.2.2.2 o13.2.1 v20 x0r0f5 x0r0f6 v24 x1 7 o53 eo53) q1576 q1577 q1578 q46 q1579 (OA.recv hS h_x0r0.OA (C := RX1) rfl) hd_X1_order rfl ⟨Nat.le_of_ble_eq_true rfl, Nat.le_of_ble_eq_true rfl⟩ hS ⟨h_x0r0, h_x0r0r0, h_x0r0r1, h_x0r0r2⟩ hl.1 rfl (Nat.le_of_ble_eq_true rfl) dX0_areAnswers_553 ⟨by have := hcE; have := hsE; omega, by have := hcE; have := hsE; omega⟩) hS (fun b H locs hp hS hz => ?_)
                    obtain ⟨eb_, hO⟩ := hp
                    rw [eb_]
                    have h_x0 := h_x0.ext hO
                    have h_x0r0 := h_x0r0.ext hO
                    have h_x0r0r0 := h_x0r0r0.ext hO
                    have h_x0r0r1 := h_x0r0r1.ext hO
                    have h_x0r0r2 := h_x0r0r2.ext hO
                    have hF := hF.trans (hO.mono (fun _ _ z => z.elim))
                    refine lv_aload_n hx hb dX0_areAnswers_556 rfl (lv_at hl 0 rfl) ?_
                    refine r_get hx hb hts hown hS h_x0 rfl in_X0 0 (by decide) q936 rfl (v := .ref x0r0) rfl dX0_areAnswers_557 ?_
                    refine lv_iload hx hb dX0_areAnswers_560 (lv_at hl 7 rfl) ?_
                    refine lv_bipush (v := 7) hx hb dX0_areAnswers_562 (by decide) ?_
                    refine lv_iload_n hx hb dX0_areAnswers_564 rfl (lv_at hl 1 rfl) ?_
                    obtain ⟨o54, eo54, h⟩ := bind_step h
                    refine r_ci (r_runV (rest := [.int o53]) (As := [.int v24, .int 7, .int x1]) hC 3 (m_X1_order x0r0 x0r0r0 x0r0r1 x0r0r2  o13.2.2.1 f19 o13.2.2.2 o13.2.1 v20 x0r0f5 x0r0f6 v24 7 x1 o54 eo54) q1576 q1577 q1578 q46 q1579 (OA.recv hS h_x0r0.OA (C := RX1) rfl) hd_X1_order rfl ⟨Nat.le_of_ble_eq_true rfl, Nat.le_of_ble_eq_true rfl⟩ hS ⟨h_x0r0, h_x0r0r0, h_x0r0r1, h_x0r0r2⟩ hl.1 rfl (Nat.le_of_ble_eq_true rfl) dX0_areAnswers_565 ⟨by have := hcE; have := hsE; omega, by have := hcE; have := hsE; omega⟩) hS (fun b H locs hp hS hz => ?_)
                    obtain ⟨eb_, hO⟩ := hp
                    rw [eb_]
                    have h_x0 := h_x0.ext hO
                    have h_x0r0 := h_x0r0.ext hO
                    have h_x0r0r0 := h_x0r0r0.ext hO
                    have h_x0r0r1 := h_x0r0r1.ext hO
                    have h_x0r0r2 := h_x0r0r2.ext hO
                    have hF := hF.trans (hO.mono (fun _ _ z => z.elim))
                    obtain ⟨v55, ev55, h⟩ := lti_step h
                    refine r_ineg hx hb ev55 dX0_areAnswers_568 ?_
                    refine lv_icmp_ne (tgt := 576) hx hb dX0_areAnswers_569 (by decide) (fun c56 => ?_) (fun c56 => ?_)
                    · have h := it_neg h c56
                      exact HK47  h H locs hS hF h_x0 h_x0r0 h_x0r0r0 h_x0r0r1 h_x0r0r2 ls (lv_sub hl [0, 1, 2, 3, 4, 6, 7] rfl)
                    · have h := it_pos h c56
                      refine lv_iconst (v := 1) hx hb dX0_areAnswers_572 (by decide) ?_
                      refine lv_goto (tgt := 577) hx hb dX0_areAnswers_573 (by decide) ?_
                      exact HK45 true h H locs hS hF h_x0 h_x0r0 h_x0r0r0 h_x0r0r1 h_x0r0r2 ls (lv_sub hl [0, 1, 2, 3, 4, 6, 7] rfl)
          clear eF40
          refine HL 9 v21 0 w41 ew41 _ _ (Nat.le_of_eq eCE.symm) (Nat.le_of_eq eSE.symm) H locs hS hF h_x0 h_x0r0 h_x0r0r0 h_x0r0r1 h_x0r0r2 ls (lv_sub hl [2, 3, 4, 5, 6, 1, 7, 0] rfl) (fun  H locs hS hF h_x0 h_x0r0 h_x0r0r0 h_x0r0r1 h_x0r0r2 ls hl => ?_)
          rw [eCE, eSE]
          refine lv_iload hx hb dX0_areAnswers_585 (lv_at hl 5 rfl) ?_
          obtain ⟨K58, eK58, h⟩ := lt_step h
          have HK58 : ∀ (v57 : Bool) (h : K58 v57 = some r) (H : Heap) (locs : List Loc) (hS : St D s H locs) (hF : Off (fun a => a = x0r0 ∨ a = x0r0r0 ∨ a = x0r0r1 ∨ a = x0r0r2) s.heap H) (h_x0 : OA D 1 x0 [.ref x0r0] H) (h_x0r0 : ON D 0 x0r0 [.ref x0r0r0, .ref x0r0r1, .ref x0r0r2, .int o13.2.1, .int v20, .int x0r0f5, .int x0r0f6] H) (h_x0r0r0 : aD D x0r0r0 8 o13.2.2.1 H) (h_x0r0r1 : aD D x0r0r1 8 f19 H) (h_x0r0r2 : aZ D x0r0r2 8 o13.2.2.2 H) (ls : Array Slot) (hl : lv_has ls 22 [(0, .ref x0), (1, .int x1), (2, .int x2), (3, .long o1.1), (5, .long o2.1), (12, .int o11)]), W p l e R_X0_areAnswers s m A below meth c H locs 2005 22193 Q (F0 m 655 ls [.int (bI v57)]) := by
            intro v57 h H locs hS hF h_x0 h_x0r0 h_x0r0r0 h_x0r0r1 h_x0r0r2 ls hl
            subst eK58
            refine lv_istore (lv' := [(9, .int (bI v57)), (0, .ref x0), (1, .int x1), (2, .int x2), (3, .long o1.1), (5, .long o2.1), (12, .int o11)]) hx hb dX0_areAnswers_655 hl (by decide) rfl (fun ls hl => ?_)
            refine lv_aload_n hx hb dX0_areAnswers_657 rfl (lv_at hl 1 rfl) ?_
            refine r_get hx hb hts hown hS h_x0 rfl in_X0 0 (by decide) q936 rfl (v := .ref x0r0) rfl dX0_areAnswers_658 ?_
            refine lv_iload_n hx hb dX0_areAnswers_661 rfl (lv_at hl 2 rfl) ?_
            refine lv_bipush (v := 6) hx hb dX0_areAnswers_662 (by decide) ?_
            obtain ⟨o59, eo59, h⟩ := bind_step h
            refine r_ci (r_runV (rest := []) (As := [.int x1, .int 6]) hC 2 (m_X1_angleCopy x0r0 x0r0r0 x0r0r1 x0r0r2  o13.2.2.1 f19 o13.2.2.2 o13.2.1 v20 x0r0f5 x0r0f6 x1 6 o59 eo59) q1514 q1515 q1516 q46 q1517 (OA.recv hS h_x0r0.OA (C := RX1) rfl) hd_X1_angleCopy rfl ⟨Nat.le_of_ble_eq_true rfl, Nat.le_of_ble_eq_true rfl⟩ hS ⟨h_x0r0, hB_h_x0r0, h_x0r0r0, hB_h_x0r0r0, h_x0r0r1, h_x0r0r2, hB_h_x0r0r2, ne_x0r0_x0r0r0, ne_x0r0_x0r0r1, ne_x0r0_x0r0r2, ne_x0r0r0_x0r0r1, ne_x0r0r0_x0r0r2, ne_x0r0r1_x0r0r2⟩ hl.1 rfl (Nat.le_of_ble_eq_true rfl) dX0_areAnswers_664 ⟨Nat.le_of_ble_eq_true rfl, Nat.le_of_ble_eq_true rfl⟩) hS (fun b H locs hp hS hz => ?_)
            obtain ⟨rfl, h_x0r0, h_x0r0r0, h_x0r0r2, hO⟩ := hp
            have h_x0 := h_x0.off hO (fun z => by rcases z with z | z | z <;> first | exact ne_x0_x0r0 z | exact ne_x0_x0r0r0 z | exact ne_x0_x0r0r2 z)
            have h_x0r0r1 := h_x0r0r1.off hO (fun z => by rcases z with z | z | z <;> first | exact (Ne.symm ne_x0r0_x0r0r1) z | exact (Ne.symm ne_x0r0r0_x0r0r1) z | exact ne_x0r0r1_x0r0r2 z)
            have hF := hF.fresh hO (fun a ha z => by
              rcases z with z | z | z
              · exact Or.inl z
              · exact Or.inr (Or.inl z)
              · exact Or.inr (Or.inr (Or.inr (z))))
            refine lv_pop hx hb dX0_areAnswers_667 rfl ?_
            refine lv_aload_n hx hb dX0_areAnswers_668 rfl (lv_at hl 1 rfl) ?_
            refine r_get hx hb hts hown hS h_x0 rfl in_X0 0 (by decide) q936 rfl (v := .ref x0r0) rfl dX0_areAnswers_669 ?_
            refine lv_bipush (v := 6) hx hb dX0_areAnswers_672 (by decide) ?_
            obtain ⟨o60, eo60, h⟩ := bind_step h
            refine r_ci (r_runV (rest := []) (As := [.int 6]) hC 1 (m_X1_angleTwice x0r0 x0r0r0 x0r0r1 x0r0r2  o59.2.2.1 f19 o59.2.2.2 o59.2.1 v20 x0r0f5 x0r0f6 6 o60 eo60) q1411 q1412 q1413 q46 q1414 (OA.recv hS h_x0r0.OA (C := RX1) rfl) hd_X1_angleTwice rfl ⟨Nat.le_of_ble_eq_true rfl, Nat.le_of_ble_eq_true rfl⟩ hS ⟨h_x0r0, hB_h_x0r0, h_x0r0r0, hB_h_x0r0r0, h_x0r0r1, h_x0r0r2, hB_h_x0r0r2, ne_x0r0_x0r0r0, ne_x0r0_x0r0r1, ne_x0r0_x0r0r2, ne_x0r0r0_x0r0r1, ne_x0r0r0_x0r0r2, ne_x0r0r1_x0r0r2⟩ hl.1 rfl (Nat.le_of_ble_eq_true rfl) dX0_areAnswers_674 ⟨Nat.le_of_ble_eq_true rfl, Nat.le_of_ble_eq_true rfl⟩) hS (fun b H locs hp hS hz => ?_)
            obtain ⟨rfl, h_x0r0, h_x0r0r0, h_x0r0r2, hO⟩ := hp
            have h_x0 := h_x0.off hO (fun z => by rcases z with z | z | z <;> first | exact ne_x0_x0r0 z | exact ne_x0_x0r0r0 z | exact ne_x0_x0r0r2 z)
            have h_x0r0r1 := h_x0r0r1.off hO (fun z => by rcases z with z | z | z <;> first | exact (Ne.symm ne_x0r0_x0r0r1) z | exact (Ne.symm ne_x0r0r0_x0r0r1) z | exact ne_x0r0r1_x0r0r2 z)
            have hF := hF.fresh hO (fun a ha z => by
              rcases z with z | z | z
              · exact Or.inl z
              · exact Or.inr (Or.inl z)
              · exact Or.inr (Or.inr (Or.inr (z))))
            refine lv_istore (lv' := [(19, .int o60.1), (9, .int (bI v57)), (0, .ref x0), (1, .int x1), (2, .int x2), (3, .long o1.1), (5, .long o2.1), (12, .int o11)]) hx hb dX0_areAnswers_677 hl (by decide) rfl (fun ls hl => ?_)
            refine lv_iload hx hb dX0_areAnswers_679 (lv_at hl 1 rfl) ?_
            obtain ⟨K62, eK62, h⟩ := lt_step h
            have HK62 : ∀ (v61 : Bool) (h : K62 v61 = some r) (H : Heap) (locs : List Loc) (hS : St D s H locs) (hF : Off (fun a => a = x0r0 ∨ a = x0r0r0 ∨ a = x0r0r1 ∨ a = x0r0r2) s.heap H) (h_x0 : OA D 1 x0 [.ref x0r0] H) (h_x0r0 : ON D 0 x0r0 [.ref x0r0r0, .ref x0r0r1, .ref x0r0r2, .int o60.2.1, .int v20, .int o60.2.2.1, .int x0r0f6] H) (h_x0r0r0 : aD D x0r0r0 8 o60.2.2.2.1 H) (h_x0r0r1 : aD D x0r0r1 8 f19 H) (h_x0r0r2 : aZ D x0r0r2 8 o60.2.2.2.2 H) (ls : Array Slot) (hl : lv_has ls 22 [(0, .ref x0), (3, .long o1.1), (5, .long o2.1), (19, .int o60.1)]), W p l e R_X0_areAnswers s m A below meth c H locs 2702 29098 Q (F0 m 773 ls [.int (bI v61)]) := by
              intro v61 h H locs hS hF h_x0 h_x0r0 h_x0r0r0 h_x0r0r1 h_x0r0r2 ls hl
              subst eK62
              refine lv_istore (lv' := [(9, .int (bI v61)), (0, .ref x0), (3, .long o1.1), (5, .long o2.1), (19, .int o60.1)]) hx hb dX0_areAnswers_773 hl (by decide) rfl (fun ls hl => ?_)
              refine lv_iload hx hb dX0_areAnswers_775 (lv_at hl 4 rfl) ?_
              refine lv_bipush (v := (-9)) hx hb dX0_areAnswers_777 (by decide) ?_
              refine lv_icmp_ne (tgt := 785) hx hb dX0_areAnswers_779 (by decide) (fun c63 => ?_) (fun c63 => ?_)
              · have h := it_neg h c63
                refine lv_ldc2 hx hb (v := 2) hown (hts _ q1518) dX0_areAnswers_785 ?_
                refine lv_lload_n hx hb dX0_areAnswers_788 rfl (lv_at hl 2 rfl) ?_
                obtain ⟨o64, eo64, h⟩ := bind_step h
                refine r_cp (r_runS (rest := [.long 2]) (As := [.long o1.1]) hC 1 (m_X0_size   o1.1 o64 eo64) q1522 q1523 q39 q1524 hd_X0_size rfl ⟨Nat.le_of_ble_eq_true rfl, Nat.le_of_ble_eq_true rfl⟩ hS trivial hl.1 rfl (Nat.le_of_ble_eq_true rfl) dX0_areAnswers_789 ⟨Nat.le_of_ble_eq_true rfl, Nat.le_of_ble_eq_true rfl⟩) ?_
                refine lv_lload hx hb dX0_areAnswers_792 (lv_at hl 3 rfl) ?_
                obtain ⟨o65, eo65, h⟩ := bind_step h
                refine r_cp (r_runS (rest := [.long o64, .long 2]) (As := [.long o2.1]) hC 1 (m_X0_size   o2.1 o65 eo65) q1522 q1523 q39 q1524 hd_X0_size rfl ⟨Nat.le_of_ble_eq_true rfl, Nat.le_of_ble_eq_true rfl⟩ hS trivial hl.1 rfl (Nat.le_of_ble_eq_true rfl) dX0_areAnswers_794 ⟨Nat.le_of_ble_eq_true rfl, Nat.le_of_ble_eq_true rfl⟩) ?_
                obtain ⟨v66, ev66, h⟩ := ltl_step h
                refine r_ladd hx hb ev66 dX0_areAnswers_797 ?_
                obtain ⟨v67, ev67, h⟩ := ltl_step h
                refine r_lmul hx hb ev67 dX0_areAnswers_798 ?_
                refine lv_ldc2 hx hb (v := 2) hown (hts _ q1518) dX0_areAnswers_799 ?_
                obtain ⟨v68, ev68, h⟩ := ltl_step h
                refine r_ladd hx hb ev68 dX0_areAnswers_802 ?_
                refine lv_ldc2 hx hb (v := 1073741824) hown (hts _ q1239) dX0_areAnswers_803 ?_
                obtain ⟨v69, ev69, h⟩ := ltl_step h
                refine r_ladd hx hb ev69 dX0_areAnswers_806 ?_
                refine lv_lstore (lv' := [(20, .long v69), (9, .int (bI v61)), (0, .ref x0), (3, .long o1.1), (5, .long o2.1), (19, .int o60.1)]) hx hb dX0_areAnswers_807 hl (by decide) rfl (fun ls hl => ?_)
                refine lv_iload hx hb dX0_areAnswers_809 (lv_at hl 1 rfl) ?_
                refine r_ifz_eq (tgt := 877) hx hb dX0_areAnswers_811 (by decide) (fun c70 => ?_) (fun c70 => ?_)
                · have h := it_neg h (by rw [c70]; decide)
                  refine lv_iconst (v := 0) hx hb dX0_areAnswers_877 (by decide) ?_
                  obtain rfl := Option.some.inj h
                  rw [eQ]
                  exact r_zret hx hb hr hlk hS (by decide) (Nat.le_of_ble_eq_true rfl) (Nat.le_of_ble_eq_true rfl) dX0_areAnswers_878 ⟨_, rfl, rfl, h_x0r0, h_x0r0r0, h_x0r0r1, h_x0r0r2, hF⟩
                · have h := it_pos h (by rw [c70])
                  refine lv_ldc2 hx hb (v := 2) hown (hts _ q1518) dX0_areAnswers_814 ?_
                  refine lv_lload_n hx hb dX0_areAnswers_817 rfl (lv_at hl 3 rfl) ?_
                  obtain ⟨v71, ev71, h⟩ := ltl_step h
                  refine r_lmul hx hb ev71 dX0_areAnswers_818 ?_
                  refine lv_lload hx hb dX0_areAnswers_819 (lv_at hl 4 rfl) ?_
                  obtain ⟨v72, ev72, h⟩ := ltl_step h
                  refine r_lmul hx hb ev72 dX0_areAnswers_821 ?_
                  refine lv_aload_n hx hb dX0_areAnswers_822 rfl (lv_at hl 2 rfl) ?_
                  refine lv_iconst (v := 0) hx hb dX0_areAnswers_823 (by decide) ?_
                  refine lv_bipush (v := 6) hx hb dX0_areAnswers_824 (by decide) ?_
                  refine lv_bipush (v := 6) hx hb dX0_areAnswers_826 (by decide) ?_
                  obtain ⟨o73, eo73, h⟩ := bind_step h
                  refine r_cl (r_runV (rest := [.long v72]) (As := [.int 0, .int 6, .int 6]) hC 3 (m_X0_answer x0 x0r0 x0r0r0 x0r0r1 x0r0r2  o60.2.2.2.1 f19 o60.2.2.2.2 o60.2.1 v20 o60.2.2.1 x0r0f6 0 6 6 o73 eo73) q1415 q1417 qs27 q39 q1418 (OA.recv hS h_x0 (C := RX0) rfl) hd_X0_answer rfl ⟨Nat.le_of_ble_eq_true rfl, Nat.le_of_ble_eq_true rfl⟩ hS ⟨h_x0, h_x0r0, hB_h_x0r0, h_x0r0r0, h_x0r0r1, hB_h_x0r0r1, h_x0r0r2, ne_x0_x0r0, ne_x0_x0r0r1, ne_x0r0_x0r0r0, ne_x0r0_x0r0r1, ne_x0r0_x0r0r2, ne_x0r0r0_x0r0r1, ne_x0r0r1_x0r0r2⟩ hl.1 rfl (Nat.le_of_ble_eq_true rfl) dX0_areAnswers_828 ⟨Nat.le_of_ble_eq_true rfl, Nat.le_of_ble_eq_true rfl⟩) hS (fun b H locs hp hS hz => ?_)
                  obtain ⟨rfl, h_x0r0, h_x0r0r1, hO⟩ := hp
                  have h_x0 := h_x0.off hO (fun z => by rcases z with z | z <;> first | exact ne_x0_x0r0 z | exact ne_x0_x0r0r1 z)
                  have h_x0r0r0 := h_x0r0r0.off hO (fun z => by rcases z with z | z <;> first | exact (Ne.symm ne_x0r0_x0r0r0) z | exact ne_x0r0r0_x0r0r1 z)
                  have h_x0r0r2 := h_x0r0r2.off hO (fun z => by rcases z with z | z <;> first | exact (Ne.symm ne_x0r0_x0r0r2) z | exact (Ne.symm ne_x0r0r1_x0r0r2) z)
                  have hF := hF.fresh hO (fun a ha z => by
                    rcases z with z | z
                    · exact Or.inl z
                    · exact Or.inr (Or.inr (Or.inl z)))
                  refine lv_ldc2 hx hb (v := 1073741824) hown (hts _ q1239) dX0_areAnswers_831 ?_
                  obtain ⟨v74, ev74, h⟩ := ltl_step h
                  refine r_lmul hx hb ev74 dX0_areAnswers_834 ?_
                  refine lv_lload hx hb dX0_areAnswers_835 (lv_at hl 0 rfl) ?_
                  obtain ⟨o75, eo75, h⟩ := bind_step h
                  refine r_cp (r_runS (rest := []) (As := [.long v72, .long v74, .long v69]) hC 3 (m_X0_isNear   v72 v74 v69 o75 eo75) q1545 q1546 q39 q1547 hd_X0_isNear rfl ⟨Nat.le_of_ble_eq_true rfl, Nat.le_of_ble_eq_true rfl⟩ hS trivial hl.1 rfl (Nat.le_of_ble_eq_true rfl) dX0_areAnswers_837 ⟨Nat.le_of_ble_eq_true rfl, Nat.le_of_ble_eq_true rfl⟩) ?_
                  refine r_ifz_eq (tgt := 877) hx hb dX0_areAnswers_840 (by decide) (fun c76 => ?_) (fun c76 => ?_)
                  · have h := it_neg h (by rw [c76]; decide)
                    refine lv_iconst (v := 0) hx hb dX0_areAnswers_877 (by decide) ?_
                    obtain rfl := Option.some.inj h
                    rw [eQ]
                    exact r_zret hx hb hr hlk hS (by decide) (Nat.le_of_ble_eq_true rfl) (Nat.le_of_ble_eq_true rfl) dX0_areAnswers_878 ⟨_, rfl, rfl, h_x0r0, h_x0r0r0, h_x0r0r1, h_x0r0r2, hF⟩
                  · have h := it_pos h (by rw [c76])
                    refine lv_lload hx hb dX0_areAnswers_843 (lv_at hl 4 rfl) ?_
                    refine lv_lload hx hb dX0_areAnswers_845 (lv_at hl 4 rfl) ?_
                    obtain ⟨v77, ev77, h⟩ := ltl_step h
                    refine r_lmul hx hb ev77 dX0_areAnswers_847 ?_
                    refine lv_lload_n hx hb dX0_areAnswers_848 rfl (lv_at hl 3 rfl) ?_
                    refine lv_lload_n hx hb dX0_areAnswers_849 rfl (lv_at hl 3 rfl) ?_
                    obtain ⟨v78, ev78, h⟩ := ltl_step h
                    refine r_lmul hx hb ev78 dX0_areAnswers_850 ?_
                    obtain ⟨v79, ev79, h⟩ := ltl_step h
                    refine r_lsub hx hb ev79 dX0_areAnswers_851 ?_
                    refine lv_aload_n hx hb dX0_areAnswers_852 rfl (lv_at hl 2 rfl) ?_
                    refine lv_iconst (v := 1) hx hb dX0_areAnswers_853 (by decide) ?_
                    refine lv_bipush (v := 6) hx hb dX0_areAnswers_854 (by decide) ?_
                    refine lv_bipush (v := 7) hx hb dX0_areAnswers_856 (by decide) ?_
                    obtain ⟨o80, eo80, h⟩ := bind_step h
                    refine r_cl (r_runV (rest := [.long v79]) (As := [.int 1, .int 6, .int 7]) hC 3 (m_X0_answer x0 x0r0 x0r0r0 x0r0r1 x0r0r2  o60.2.2.2.1 o73.2.2 o60.2.2.2.2 o60.2.1 o73.2.1 o60.2.2.1 x0r0f6 1 6 7 o80 eo80) q1415 q1417 qs27 q39 q1418 (OA.recv hS h_x0 (C := RX0) rfl) hd_X0_answer rfl ⟨Nat.le_of_ble_eq_true rfl, Nat.le_of_ble_eq_true rfl⟩ hS ⟨h_x0, h_x0r0, hB_h_x0r0, h_x0r0r0, h_x0r0r1, hB_h_x0r0r1, h_x0r0r2, ne_x0_x0r0, ne_x0_x0r0r1, ne_x0r0_x0r0r0, ne_x0r0_x0r0r1, ne_x0r0_x0r0r2, ne_x0r0r0_x0r0r1, ne_x0r0r1_x0r0r2⟩ hl.1 rfl (Nat.le_of_ble_eq_true rfl) dX0_areAnswers_858 ⟨Nat.le_of_ble_eq_true rfl, Nat.le_of_ble_eq_true rfl⟩) hS (fun b H locs hp hS hz => ?_)
                    obtain ⟨rfl, h_x0r0, h_x0r0r1, hO⟩ := hp
                    have h_x0 := h_x0.off hO (fun z => by rcases z with z | z <;> first | exact ne_x0_x0r0 z | exact ne_x0_x0r0r1 z)
                    have h_x0r0r0 := h_x0r0r0.off hO (fun z => by rcases z with z | z <;> first | exact (Ne.symm ne_x0r0_x0r0r0) z | exact ne_x0r0r0_x0r0r1 z)
                    have h_x0r0r2 := h_x0r0r2.off hO (fun z => by rcases z with z | z <;> first | exact (Ne.symm ne_x0r0_x0r0r2) z | exact (Ne.symm ne_x0r0r1_x0r0r2) z)
                    have hF := hF.fresh hO (fun a ha z => by
                      rcases z with z | z
                      · exact Or.inl z
                      · exact Or.inr (Or.inr (Or.inl z)))
                    refine lv_ldc2 hx hb (v := 1073741824) hown (hts _ q1239) dX0_areAnswers_861 ?_
                    obtain ⟨v81, ev81, h⟩ := ltl_step h
                    refine r_lmul hx hb ev81 dX0_areAnswers_864 ?_
                    refine lv_lload hx hb dX0_areAnswers_865 (lv_at hl 0 rfl) ?_
                    obtain ⟨o82, eo82, h⟩ := bind_step h
                    refine r_cp (r_runS (rest := []) (As := [.long v79, .long v81, .long v69]) hC 3 (m_X0_isNear   v79 v81 v69 o82 eo82) q1545 q1546 q39 q1547 hd_X0_isNear rfl ⟨Nat.le_of_ble_eq_true rfl, Nat.le_of_ble_eq_true rfl⟩ hS trivial hl.1 rfl (Nat.le_of_ble_eq_true rfl) dX0_areAnswers_867 ⟨Nat.le_of_ble_eq_true rfl, Nat.le_of_ble_eq_true rfl⟩) ?_
                    refine r_ifz_eq (tgt := 877) hx hb dX0_areAnswers_870 (by decide) (fun c83 => ?_) (fun c83 => ?_)
                    · have h := it_neg h (by rw [c83]; decide)
                      refine lv_iconst (v := 0) hx hb dX0_areAnswers_877 (by decide) ?_
                      obtain rfl := Option.some.inj h
                      rw [eQ]
                      exact r_zret hx hb hr hlk hS (by decide) (Nat.le_of_ble_eq_true rfl) (Nat.le_of_ble_eq_true rfl) dX0_areAnswers_878 ⟨_, rfl, rfl, h_x0r0, h_x0r0r0, h_x0r0r1, h_x0r0r2, hF⟩
                    · have h := it_pos h (by rw [c83])
                      refine lv_iconst (v := 1) hx hb dX0_areAnswers_873 (by decide) ?_
                      refine lv_goto (tgt := 878) hx hb dX0_areAnswers_874 (by decide) ?_
                      obtain rfl := Option.some.inj h
                      rw [eQ]
                      exact r_zret hx hb hr hlk hS (by decide) (Nat.le_of_ble_eq_true rfl) (Nat.le_of_ble_eq_true rfl) dX0_areAnswers_878 ⟨_, rfl, rfl, h_x0r0, h_x0r0r0, h_x0r0r1, h_x0r0r2, hF⟩
              · have h := it_pos h c63
                refine lv_iload hx hb dX0_areAnswers_782 (lv_at hl 0 rfl) ?_
                obtain rfl := Option.some.inj h
                rw [eQ]
                exact r_zret hx hb hr hlk hS (narB _) (Nat.le_of_ble_eq_true rfl) (Nat.le_of_ble_eq_true rfl) dX0_areAnswers_784 ⟨_, rfl, rfl, h_x0r0, h_x0r0r0, h_x0r0r1, h_x0r0r2, hF⟩
            clear eK62
            obtain ⟨K84, eK84, h⟩ := lt_step h
            have HK84 : ∀  (h : K84 () = some r) (H : Heap) (locs : List Loc) (hS : St D s H locs) (hF : Off (fun a => a = x0r0 ∨ a = x0r0r0 ∨ a = x0r0r1 ∨ a = x0r0r2) s.heap H) (h_x0 : OA D 1 x0 [.ref x0r0] H) (h_x0r0 : ON D 0 x0r0 [.ref x0r0r0, .ref x0r0r1, .ref x0r0r2, .int o60.2.1, .int v20, .int o60.2.2.1, .int x0r0f6] H) (h_x0r0r0 : aD D x0r0r0 8 o60.2.2.2.1 H) (h_x0r0r1 : aD D x0r0r1 8 f19 H) (h_x0r0r2 : aZ D x0r0r2 8 o60.2.2.2.2 H) (ls : Array Slot) (hl : lv_has ls 22 [(0, .ref x0), (3, .long o1.1), (5, .long o2.1), (19, .int o60.1)]), W p l e R_X0_areAnswers s m A below meth c H locs 2702 29098 Q (F0 m 772 ls []) := by
              intro h H locs hS hF h_x0 h_x0r0 h_x0r0r0 h_x0r0r1 h_x0r0r2 ls hl
              subst eK84
              refine lv_iconst (v := 0) hx hb dX0_areAnswers_772 (by decide) ?_
              exact HK62 false h H locs hS hF h_x0 h_x0r0 h_x0r0r0 h_x0r0r1 h_x0r0r2 ls (lv_sub hl [0, 1, 2, 3] rfl)
            clear eK84
            refine r_ifz_eq (tgt := 772) hx hb dX0_areAnswers_681 (by decide) (fun c85 => ?_) (fun c85 => ?_)
            · have h := it_neg h (by rw [c85]; decide)
              refine W.widen (k := 2702) (n := 29098) (Nat.le_of_ble_eq_true rfl) (Nat.le_of_ble_eq_true rfl) ?_
              exact HK84  h H locs hS hF h_x0 h_x0r0 h_x0r0r0 h_x0r0r1 h_x0r0r2 ls (lv_sub hl [2, 5, 6, 0] rfl)
            · have h := it_pos h (by rw [c85])
              refine lv_aload_n hx hb dX0_areAnswers_684 rfl (lv_at hl 2 rfl) ?_
              refine r_get hx hb hts hown hS h_x0 rfl in_X0 0 (by decide) q936 rfl (v := .ref x0r0) rfl dX0_areAnswers_685 ?_
              refine lv_iload_n hx hb dX0_areAnswers_688 rfl (lv_at hl 3 rfl) ?_
              refine lv_iconst (v := 0) hx hb dX0_areAnswers_689 (by decide) ?_
              obtain ⟨o86, eo86, h⟩ := bind_step h
              refine r_ci (r_runV (rest := []) (As := [.int x1, .int 0]) hC 2 (m_X1_holdsTwice x0r0 x0r0r0 x0r0r1 x0r0r2  o60.2.2.2.1 f19 o60.2.2.2.2 o60.2.1 v20 o60.2.2.1 x0r0f6 x1 0 o86 eo86) q1592 q1593 q1594 q46 q1595 (OA.recv hS h_x0r0.OA (C := RX1) rfl) hd_X1_holdsTwice rfl ⟨Nat.le_of_ble_eq_true rfl, Nat.le_of_ble_eq_true rfl⟩ hS ⟨h_x0r0, h_x0r0r0, h_x0r0r1, h_x0r0r2⟩ hl.1 rfl (Nat.le_of_ble_eq_true rfl) dX0_areAnswers_690 ⟨Nat.le_of_ble_eq_true rfl, Nat.le_of_ble_eq_true rfl⟩) hS (fun b H locs hp hS hz => ?_)
              obtain ⟨eb_, hO⟩ := hp
              rw [eb_]
              have h_x0 := h_x0.ext hO
              have h_x0r0 := h_x0r0.ext hO
              have h_x0r0r0 := h_x0r0r0.ext hO
              have h_x0r0r1 := h_x0r0r1.ext hO
              have h_x0r0r2 := h_x0r0r2.ext hO
              have hF := hF.trans (hO.mono (fun _ _ z => z.elim))
              refine lv_iload hx hb dX0_areAnswers_693 (lv_at hl 0 rfl) ?_
              refine lv_bipush (v := (-9)) hx hb dX0_areAnswers_695 (by decide) ?_
              obtain ⟨K88, eK88, h⟩ := lt_step h
              have HK88 : ∀ (v87 : Int32) (h : K88 v87 = some r) (H : Heap) (locs : List Loc) (hS : St D s H locs) (hF : Off (fun a => a = x0r0 ∨ a = x0r0r0 ∨ a = x0r0r1 ∨ a = x0r0r2) s.heap H) (h_x0 : OA D 1 x0 [.ref x0r0] H) (h_x0r0 : ON D 0 x0r0 [.ref x0r0r0, .ref x0r0r1, .ref x0r0r2, .int o60.2.1, .int v20, .int o60.2.2.1, .int x0r0f6] H) (h_x0r0r0 : aD D x0r0r0 8 o60.2.2.2.1 H) (h_x0r0r1 : aD D x0r0r1 8 f19 H) (h_x0r0r2 : aZ D x0r0r2 8 o60.2.2.2.2 H) (ls : Array Slot) (hl : lv_has ls 22 [(0, .ref x0), (1, .int x1), (2, .int x2), (3, .long o1.1), (5, .long o2.1), (12, .int o11), (19, .int o60.1)]), W p l e R_X0_areAnswers s m A below meth c H locs 2588 27906 Q (F0 m 706 ls [.int v87, .int o86]) := by
                intro v87 h H locs hS hF h_x0 h_x0r0 h_x0r0r0 h_x0r0r1 h_x0r0r2 ls hl
                subst eK88
                refine lv_icmp_ne (tgt := 772) hx hb dX0_areAnswers_706 (by decide) (fun c89 => ?_) (fun c89 => ?_)
                · have h := it_neg h c89
                  refine W.widen (k := 2702) (n := 29098) (Nat.le_of_ble_eq_true rfl) (Nat.le_of_ble_eq_true rfl) ?_
                  exact HK84  h H locs hS hF h_x0 h_x0r0 h_x0r0r0 h_x0r0r1 h_x0r0r2 ls (lv_sub hl [0, 3, 4, 6] rfl)
                · have h := it_pos h c89
                  refine lv_aload_n hx hb dX0_areAnswers_709 rfl (lv_at hl 0 rfl) ?_
                  refine r_get hx hb hts hown hS h_x0 rfl in_X0 0 (by decide) q936 rfl (v := .ref x0r0) rfl dX0_areAnswers_710 ?_
                  refine lv_iload_n hx hb dX0_areAnswers_713 rfl (lv_at hl 1 rfl) ?_
                  refine lv_iconst (v := 1) hx hb dX0_areAnswers_714 (by decide) ?_
                  obtain ⟨o90, eo90, h⟩ := bind_step h
                  refine r_ci (r_runV (rest := []) (As := [.int x1, .int 1]) hC 2 (m_X1_holdsTwice x0r0 x0r0r0 x0r0r1 x0r0r2  o60.2.2.2.1 f19 o60.2.2.2.2 o60.2.1 v20 o60.2.2.1 x0r0f6 x1 1 o90 eo90) q1592 q1593 q1594 q46 q1595 (OA.recv hS h_x0r0.OA (C := RX1) rfl) hd_X1_holdsTwice rfl ⟨Nat.le_of_ble_eq_true rfl, Nat.le_of_ble_eq_true rfl⟩ hS ⟨h_x0r0, h_x0r0r0, h_x0r0r1, h_x0r0r2⟩ hl.1 rfl (Nat.le_of_ble_eq_true rfl) dX0_areAnswers_715 ⟨Nat.le_of_ble_eq_true rfl, Nat.le_of_ble_eq_true rfl⟩) hS (fun b H locs hp hS hz => ?_)
                  obtain ⟨eb_, hO⟩ := hp
                  rw [eb_]
                  have h_x0 := h_x0.ext hO
                  have h_x0r0 := h_x0r0.ext hO
                  have h_x0r0r0 := h_x0r0r0.ext hO
                  have h_x0r0r1 := h_x0r0r1.ext hO
                  have h_x0r0r2 := h_x0r0r2.ext hO
                  have hF := hF.trans (hO.mono (fun _ _ z => z.elim))
                  refine lv_iload hx hb dX0_areAnswers_718 (lv_at hl 6 rfl) ?_
                  refine lv_bipush (v := (-9)) hx hb dX0_areAnswers_720 (by decide) ?_
                  obtain ⟨K92, eK92, h⟩ := lt_step h
                  have HK92 : ∀ (v91 : Int32) (h : K92 v91 = some r) (H : Heap) (locs : List Loc) (hS : St D s H locs) (hF : Off (fun a => a = x0r0 ∨ a = x0r0r0 ∨ a = x0r0r1 ∨ a = x0r0r2) s.heap H) (h_x0 : OA D 1 x0 [.ref x0r0] H) (h_x0r0 : ON D 0 x0r0 [.ref x0r0r0, .ref x0r0r1, .ref x0r0r2, .int o60.2.1, .int v20, .int o60.2.2.1, .int x0r0f6] H) (h_x0r0r0 : aD D x0r0r0 8 o60.2.2.2.1 H) (h_x0r0r1 : aD D x0r0r1 8 f19 H) (h_x0r0r2 : aZ D x0r0r2 8 o60.2.2.2.2 H) (ls : Array Slot) (hl : lv_has ls 22 [(0, .ref x0), (1, .int x1), (2, .int x2), (3, .long o1.1), (5, .long o2.1), (12, .int o11), (19, .int o60.1)]), W p l e R_X0_areAnswers s m A below meth c H locs 2635 28391 Q (F0 m 731 ls [.int v91, .int o90]) := by
                    intro v91 h H locs hS hF h_x0 h_x0r0 h_x0r0r0 h_x0r0r1 h_x0r0r2 ls hl
                    subst eK92
                    refine lv_icmp_ne (tgt := 772) hx hb dX0_areAnswers_731 (by decide) (fun c93 => ?_) (fun c93 => ?_)
                    · have h := it_neg h c93
                      refine W.widen (k := 2702) (n := 29098) (Nat.le_of_ble_eq_true rfl) (Nat.le_of_ble_eq_true rfl) ?_
                      exact HK84  h H locs hS hF h_x0 h_x0r0 h_x0r0r0 h_x0r0r1 h_x0r0r2 ls (lv_sub hl [0, 3, 4, 6] rfl)
                    · have h := it_pos h c93
                      refine lv_aload_n hx hb dX0_areAnswers_734 rfl (lv_at hl 0 rfl) ?_
                      refine r_get hx hb hts hown hS h_x0 rfl in_X0 0 (by decide) q936 rfl (v := .ref x0r0) rfl dX0_areAnswers_735 ?_
                      refine lv_iload_n hx hb dX0_areAnswers_738 rfl (lv_at hl 1 rfl) ?_
                      refine lv_iload_n hx hb dX0_areAnswers_739 rfl (lv_at hl 2 rfl) ?_
                      refine lv_iconst (v := 1) hx hb dX0_areAnswers_740 (by decide) ?_
                      obtain ⟨v94, ev94, h⟩ := lti_step h
                      refine r_iand hx hb ev94 dX0_areAnswers_741 ?_
                      obtain ⟨o95, eo95, h⟩ := bind_step h
                      refine r_ci (r_runV (rest := []) (As := [.int x1, .int v94]) hC 2 (m_X1_holdsStep x0r0 x0r0r0 x0r0r1 x0r0r2  o60.2.2.2.1 f19 o60.2.2.2.2 o60.2.1 v20 o60.2.2.1 x0r0f6 x1 v94 o95 eo95) q1596 q1597 q1598 q46 q1599 (OA.recv hS h_x0r0.OA (C := RX1) rfl) hd_X1_holdsStep rfl ⟨Nat.le_of_ble_eq_true rfl, Nat.le_of_ble_eq_true rfl⟩ hS ⟨h_x0r0, h_x0r0r0, h_x0r0r1, h_x0r0r2⟩ hl.1 rfl (Nat.le_of_ble_eq_true rfl) dX0_areAnswers_742 ⟨Nat.le_of_ble_eq_true rfl, Nat.le_of_ble_eq_true rfl⟩) hS (fun b H locs hp hS hz => ?_)
                      obtain ⟨eb_, hO⟩ := hp
                      rw [eb_]
                      have h_x0 := h_x0.ext hO
                      have h_x0r0 := h_x0r0.ext hO
                      have h_x0r0r0 := h_x0r0r0.ext hO
                      have h_x0r0r1 := h_x0r0r1.ext hO
                      have h_x0r0r2 := h_x0r0r2.ext hO
                      have hF := hF.trans (hO.mono (fun _ _ z => z.elim))
                      refine lv_iload hx hb dX0_areAnswers_745 (lv_at hl 5 rfl) ?_
                      refine lv_ldc hx hb (v := (-2147483648)) hown (hts _ q1505) dX0_areAnswers_747 ?_
                      obtain ⟨K97, eK97, h⟩ := lt_step h
                      have HK97 : ∀ (v96 : Int32) (h : K97 v96 = some r) (H : Heap) (locs : List Loc) (hS : St D s H locs) (hF : Off (fun a => a = x0r0 ∨ a = x0r0r0 ∨ a = x0r0r1 ∨ a = x0r0r2) s.heap H) (h_x0 : OA D 1 x0 [.ref x0r0] H) (h_x0r0 : ON D 0 x0r0 [.ref x0r0r0, .ref x0r0r1, .ref x0r0r2, .int o60.2.1, .int v20, .int o60.2.2.1, .int x0r0f6] H) (h_x0r0r0 : aD D x0r0r0 8 o60.2.2.2.1 H) (h_x0r0r1 : aD D x0r0r1 8 f19 H) (h_x0r0r2 : aZ D x0r0r2 8 o60.2.2.2.2 H) (ls : Array Slot) (hl : lv_has ls 22 [(0, .ref x0), (3, .long o1.1), (5, .long o2.1), (19, .int o60.1)]), W p l e R_X0_areAnswers s m A below meth c H locs 2702 29098 Q (F0 m 765 ls [.int v96, .int o95]) := by
                        intro v96 h H locs hS hF h_x0 h_x0r0 h_x0r0r0 h_x0r0r1 h_x0r0r2 ls hl
                        subst eK97
                        refine lv_icmp_ne (tgt := 772) hx hb dX0_areAnswers_765 (by decide) (fun c98 => ?_) (fun c98 => ?_)
                        · have h := it_neg h c98
                          exact HK84  h H locs hS hF h_x0 h_x0r0 h_x0r0r0 h_x0r0r1 h_x0r0r2 ls (lv_sub hl [0, 1, 2, 3] rfl)
                        · have h := it_pos h c98
                          refine lv_iconst (v := 1) hx hb dX0_areAnswers_768 (by decide) ?_
                          refine lv_goto (tgt := 773) hx hb dX0_areAnswers_769 (by decide) ?_
                          exact HK62 true h H locs hS hF h_x0 h_x0r0 h_x0r0r0 h_x0r0r1 h_x0r0r2 ls (lv_sub hl [0, 1, 2, 3] rfl)
                      clear eK97
                      obtain ⟨K99, eK99, h⟩ := lt_step h
                      have HK99 : ∀  (h : K99 () = some r) (H : Heap) (locs : List Loc) (hS : St D s H locs) (hF : Off (fun a => a = x0r0 ∨ a = x0r0r0 ∨ a = x0r0r1 ∨ a = x0r0r2) s.heap H) (h_x0 : OA D 1 x0 [.ref x0r0] H) (h_x0r0 : ON D 0 x0r0 [.ref x0r0r0, .ref x0r0r1, .ref x0r0r2, .int o60.2.1, .int v20, .int o60.2.2.1, .int x0r0f6] H) (h_x0r0r0 : aD D x0r0r0 8 o60.2.2.2.1 H) (h_x0r0r1 : aD D x0r0r1 8 f19 H) (h_x0r0r2 : aZ D x0r0r2 8 o60.2.2.2.2 H) (ls : Array Slot) (hl : lv_has ls 22 [(0, .ref x0), (3, .long o1.1), (5, .long o2.1), (19, .int o60.1)]), W p l e R_X0_areAnswers s m A below meth c H locs 2702 29098 Q (F0 m 759 ls [.int o95]) := by
                        intro h H locs hS hF h_x0 h_x0r0 h_x0r0r0 h_x0r0r1 h_x0r0r2 ls hl
                        subst eK99
                        refine lv_bipush (v := (-9)) hx hb dX0_areAnswers_759 (by decide) ?_
                        refine lv_goto (tgt := 765) hx hb dX0_areAnswers_761 (by decide) ?_
                        exact HK97 (-9) h H locs hS hF h_x0 h_x0r0 h_x0r0r0 h_x0r0r1 h_x0r0r2 ls (lv_sub hl [0, 1, 2, 3] rfl)
                      clear eK99
                      refine lv_icmp_eq (tgt := 759) hx hb dX0_areAnswers_749 (by decide) (fun c100 => ?_) (fun c100 => ?_)
                      · have h := it_pos h c100
                        exact HK99  h H locs hS hF h_x0 h_x0r0 h_x0r0r0 h_x0r0r1 h_x0r0r2 ls (lv_sub hl [0, 3, 4, 6] rfl)
                      · have h := it_neg h c100
                        refine lv_iload hx hb dX0_areAnswers_752 (lv_at hl 5 rfl) ?_
                        refine lv_ldc hx hb (v := 32768) hown (hts _ q1385) dX0_areAnswers_754 ?_
                        refine lv_icmp_ne (tgt := 764) hx hb dX0_areAnswers_756 (by decide) (fun c101 => ?_) (fun c101 => ?_)
                        · have h := it_neg h c101
                          refine lv_iconst (v := 1) hx hb dX0_areAnswers_764 (by decide) ?_
                          exact HK97 1 h H locs hS hF h_x0 h_x0r0 h_x0r0r0 h_x0r0r1 h_x0r0r2 ls (lv_sub hl [0, 3, 4, 6] rfl)
                        · have h := it_pos h c101
                          exact HK99  h H locs hS hF h_x0 h_x0r0 h_x0r0r0 h_x0r0r1 h_x0r0r2 ls (lv_sub hl [0, 3, 4, 6] rfl)
                  clear eK92
                  refine lv_icmp_ne (tgt := 730) hx hb dX0_areAnswers_722 (by decide) (fun c102 => ?_) (fun c102 => ?_)
                  · have h := it_neg h c102
                    refine lv_iconst (v := 1) hx hb dX0_areAnswers_730 (by decide) ?_
                    exact HK92 1 h H locs hS hF h_x0 h_x0r0 h_x0r0r0 h_x0r0r1 h_x0r0r2 ls (lv_sub hl [0, 1, 2, 3, 4, 5, 6] rfl)
                  · have h := it_pos h c102
                    refine lv_bipush (v := (-9)) hx hb dX0_areAnswers_725 (by decide) ?_
                    refine lv_goto (tgt := 731) hx hb dX0_areAnswers_727 (by decide) ?_
                    exact HK92 (-9) h H locs hS hF h_x0 h_x0r0 h_x0r0r0 h_x0r0r1 h_x0r0r2 ls (lv_sub hl [0, 1, 2, 3, 4, 5, 6] rfl)
              clear eK88
              refine lv_icmp_ne (tgt := 705) hx hb dX0_areAnswers_697 (by decide) (fun c103 => ?_) (fun c103 => ?_)
              · have h := it_neg h c103
                refine lv_iconst (v := 1) hx hb dX0_areAnswers_705 (by decide) ?_
                exact HK88 1 h H locs hS hF h_x0 h_x0r0 h_x0r0r0 h_x0r0r1 h_x0r0r2 ls (lv_sub hl [2, 3, 4, 5, 6, 7, 0] rfl)
              · have h := it_pos h c103
                refine lv_bipush (v := (-9)) hx hb dX0_areAnswers_700 (by decide) ?_
                refine lv_goto (tgt := 706) hx hb dX0_areAnswers_702 (by decide) ?_
                exact HK88 (-9) h H locs hS hF h_x0 h_x0r0 h_x0r0r0 h_x0r0r1 h_x0r0r2 ls (lv_sub hl [2, 3, 4, 5, 6, 7, 0] rfl)
          clear eK58
          obtain ⟨K104, eK104, h⟩ := lt_step h
          have HK104 : ∀  (h : K104 () = some r) (H : Heap) (locs : List Loc) (hS : St D s H locs) (hF : Off (fun a => a = x0r0 ∨ a = x0r0r0 ∨ a = x0r0r1 ∨ a = x0r0r2) s.heap H) (h_x0 : OA D 1 x0 [.ref x0r0] H) (h_x0r0 : ON D 0 x0r0 [.ref x0r0r0, .ref x0r0r1, .ref x0r0r2, .int o13.2.1, .int v20, .int x0r0f5, .int x0r0f6] H) (h_x0r0r0 : aD D x0r0r0 8 o13.2.2.1 H) (h_x0r0r1 : aD D x0r0r1 8 f19 H) (h_x0r0r2 : aZ D x0r0r2 8 o13.2.2.2 H) (ls : Array Slot) (hl : lv_has ls 22 [(0, .ref x0), (1, .int x1), (2, .int x2), (3, .long o1.1), (5, .long o2.1), (12, .int o11)]), W p l e R_X0_areAnswers s m A below meth c H locs 2005 22193 Q (F0 m 654 ls []) := by
            intro h H locs hS hF h_x0 h_x0r0 h_x0r0r0 h_x0r0r1 h_x0r0r2 ls hl
            subst eK104
            refine lv_iconst (v := 0) hx hb dX0_areAnswers_654 (by decide) ?_
            exact HK58 false h H locs hS hF h_x0 h_x0r0 h_x0r0r0 h_x0r0r1 h_x0r0r2 ls (lv_sub hl [0, 1, 2, 3, 4, 5] rfl)
          clear eK104
          refine r_ifz_eq (tgt := 654) hx hb dX0_areAnswers_587 (by decide) (fun c105 => ?_) (fun c105 => ?_)
          · have h := it_neg h (by rw [c105]; decide)
            refine W.widen (k := 2005) (n := 22193) (Nat.le_of_ble_eq_true rfl) (Nat.le_of_ble_eq_true rfl) ?_
            exact HK104  h H locs hS hF h_x0 h_x0r0 h_x0r0r0 h_x0r0r1 h_x0r0r2 ls (lv_sub hl [0, 1, 2, 3, 4, 6] rfl)
          · have h := it_pos h (by rw [c105])
            refine lv_aload_n hx hb dX0_areAnswers_590 rfl (lv_at hl 0 rfl) ?_
            refine r_get hx hb hts hown hS h_x0 rfl in_X0 0 (by decide) q936 rfl (v := .ref x0r0) rfl dX0_areAnswers_591 ?_
            refine lv_iload_n hx hb dX0_areAnswers_594 rfl (lv_at hl 1 rfl) ?_
            refine lv_iconst (v := 0) hx hb dX0_areAnswers_595 (by decide) ?_
            obtain ⟨o106, eo106, h⟩ := bind_step h
            refine r_cz (r_runV (rest := []) (As := [.int x1, .int 0]) hC 2 (m_X1_isWithin x0r0 x0r0r0 x0r0r1 x0r0r2  o13.2.2.1 f19 o13.2.2.2 o13.2.1 v20 x0r0f5 x0r0f6 x1 0 o106 eo106) q1580 q1581 q1582 q46 q1583 (OA.recv hS h_x0r0.OA (C := RX1) rfl) hd_X1_isWithin rfl ⟨Nat.le_of_ble_eq_true rfl, Nat.le_of_ble_eq_true rfl⟩ hS ⟨h_x0r0, h_x0r0r0, h_x0r0r1, h_x0r0r2⟩ hl.1 rfl (Nat.le_of_ble_eq_true rfl) dX0_areAnswers_596 ⟨Nat.le_of_ble_eq_true rfl, Nat.le_of_ble_eq_true rfl⟩) hS (fun b H locs hp hS hz => ?_)
            obtain ⟨eb_, hO⟩ := hp
            rw [eb_]
            have h_x0 := h_x0.ext hO
            have h_x0r0 := h_x0r0.ext hO
            have h_x0r0r0 := h_x0r0r0.ext hO
            have h_x0r0r1 := h_x0r0r1.ext hO
            have h_x0r0r2 := h_x0r0r2.ext hO
            have hF := hF.trans (hO.mono (fun _ _ z => z.elim))
            refine r_ifz_eq (tgt := 654) hx hb dX0_areAnswers_599 (by decide) (fun c107 => ?_) (fun c107 => ?_)
            · have h := it_neg h (by rw [c107]; decide)
              refine W.widen (k := 2005) (n := 22193) (Nat.le_of_ble_eq_true rfl) (Nat.le_of_ble_eq_true rfl) ?_
              exact HK104  h H locs hS hF h_x0 h_x0r0 h_x0r0r0 h_x0r0r1 h_x0r0r2 ls (lv_sub hl [0, 1, 2, 3, 4, 6] rfl)
            · have h := it_pos h (by rw [c107])
              refine lv_aload_n hx hb dX0_areAnswers_602 rfl (lv_at hl 0 rfl) ?_
              refine r_get hx hb hts hown hS h_x0 rfl in_X0 0 (by decide) q936 rfl (v := .ref x0r0) rfl dX0_areAnswers_603 ?_
              refine lv_iload_n hx hb dX0_areAnswers_606 rfl (lv_at hl 1 rfl) ?_
              refine lv_iconst (v := 1) hx hb dX0_areAnswers_607 (by decide) ?_
              obtain ⟨o108, eo108, h⟩ := bind_step h
              refine r_cz (r_runV (rest := []) (As := [.int x1, .int 1]) hC 2 (m_X1_isWithin x0r0 x0r0r0 x0r0r1 x0r0r2  o13.2.2.1 f19 o13.2.2.2 o13.2.1 v20 x0r0f5 x0r0f6 x1 1 o108 eo108) q1580 q1581 q1582 q46 q1583 (OA.recv hS h_x0r0.OA (C := RX1) rfl) hd_X1_isWithin rfl ⟨Nat.le_of_ble_eq_true rfl, Nat.le_of_ble_eq_true rfl⟩ hS ⟨h_x0r0, h_x0r0r0, h_x0r0r1, h_x0r0r2⟩ hl.1 rfl (Nat.le_of_ble_eq_true rfl) dX0_areAnswers_608 ⟨Nat.le_of_ble_eq_true rfl, Nat.le_of_ble_eq_true rfl⟩) hS (fun b H locs hp hS hz => ?_)
              obtain ⟨eb_, hO⟩ := hp
              rw [eb_]
              have h_x0 := h_x0.ext hO
              have h_x0r0 := h_x0r0.ext hO
              have h_x0r0r0 := h_x0r0r0.ext hO
              have h_x0r0r1 := h_x0r0r1.ext hO
              have h_x0r0r2 := h_x0r0r2.ext hO
              have hF := hF.trans (hO.mono (fun _ _ z => z.elim))
              refine r_ifz_eq (tgt := 654) hx hb dX0_areAnswers_611 (by decide) (fun c109 => ?_) (fun c109 => ?_)
              · have h := it_neg h (by rw [c109]; decide)
                refine W.widen (k := 2005) (n := 22193) (Nat.le_of_ble_eq_true rfl) (Nat.le_of_ble_eq_true rfl) ?_
                exact HK104  h H locs hS hF h_x0 h_x0r0 h_x0r0r0 h_x0r0r1 h_x0r0r2 ls (lv_sub hl [0, 1, 2, 3, 4, 6] rfl)
              · have h := it_pos h (by rw [c109])
                refine lv_aload_n hx hb dX0_areAnswers_614 rfl (lv_at hl 0 rfl) ?_
                refine r_get hx hb hts hown hS h_x0 rfl in_X0 0 (by decide) q936 rfl (v := .ref x0r0) rfl dX0_areAnswers_615 ?_
                refine lv_iload_n hx hb dX0_areAnswers_618 rfl (lv_at hl 1 rfl) ?_
                obtain ⟨o110, eo110, h⟩ := bind_step h
                refine r_cz (r_runV (rest := []) (As := [.int x1]) hC 1 (m_X1_isRound x0r0 x0r0r0 x0r0r1 x0r0r2  o13.2.2.1 f19 o13.2.2.2 o13.2.1 v20 x0r0f5 x0r0f6 x1 o110 eo110) q1584 q1585 q1586 q46 q1587 (OA.recv hS h_x0r0.OA (C := RX1) rfl) hd_X1_isRound rfl ⟨Nat.le_of_ble_eq_true rfl, Nat.le_of_ble_eq_true rfl⟩ hS ⟨h_x0r0, h_x0r0r0, h_x0r0r1, h_x0r0r2⟩ hl.1 rfl (Nat.le_of_ble_eq_true rfl) dX0_areAnswers_619 ⟨Nat.le_of_ble_eq_true rfl, Nat.le_of_ble_eq_true rfl⟩) hS (fun b H locs hp hS hz => ?_)
                obtain ⟨eb_, hO⟩ := hp
                rw [eb_]
                have h_x0 := h_x0.ext hO
                have h_x0r0 := h_x0r0.ext hO
                have h_x0r0r0 := h_x0r0r0.ext hO
                have h_x0r0r1 := h_x0r0r1.ext hO
                have h_x0r0r2 := h_x0r0r2.ext hO
                have hF := hF.trans (hO.mono (fun _ _ z => z.elim))
                refine r_ifz_eq (tgt := 654) hx hb dX0_areAnswers_622 (by decide) (fun c111 => ?_) (fun c111 => ?_)
                · have h := it_neg h (by rw [c111]; decide)
                  refine W.widen (k := 2005) (n := 22193) (Nat.le_of_ble_eq_true rfl) (Nat.le_of_ble_eq_true rfl) ?_
                  exact HK104  h H locs hS hF h_x0 h_x0r0 h_x0r0r0 h_x0r0r1 h_x0r0r2 ls (lv_sub hl [0, 1, 2, 3, 4, 6] rfl)
                · have h := it_pos h (by rw [c111])
                  refine lv_aload_n hx hb dX0_areAnswers_625 rfl (lv_at hl 0 rfl) ?_
                  refine r_get hx hb hts hown hS h_x0 rfl in_X0 0 (by decide) q936 rfl (v := .ref x0r0) rfl dX0_areAnswers_626 ?_
                  refine lv_iload_n hx hb dX0_areAnswers_629 rfl (lv_at hl 1 rfl) ?_
                  obtain ⟨o112, eo112, h⟩ := bind_step h
                  refine r_cz (r_runV (rest := []) (As := [.int x1]) hC 1 (m_X1_isSlope x0r0 x0r0r0 x0r0r1 x0r0r2  o13.2.2.1 f19 o13.2.2.2 o13.2.1 v20 x0r0f5 x0r0f6 x1 o112 eo112) q1588 q1589 q1590 q46 q1591 (OA.recv hS h_x0r0.OA (C := RX1) rfl) hd_X1_isSlope rfl ⟨Nat.le_of_ble_eq_true rfl, Nat.le_of_ble_eq_true rfl⟩ hS ⟨h_x0r0, h_x0r0r0, h_x0r0r1, h_x0r0r2⟩ hl.1 rfl (Nat.le_of_ble_eq_true rfl) dX0_areAnswers_630 ⟨Nat.le_of_ble_eq_true rfl, Nat.le_of_ble_eq_true rfl⟩) hS (fun b H locs hp hS hz => ?_)
                  obtain ⟨eb_, hO⟩ := hp
                  rw [eb_]
                  have h_x0 := h_x0.ext hO
                  have h_x0r0 := h_x0r0.ext hO
                  have h_x0r0r0 := h_x0r0r0.ext hO
                  have h_x0r0r1 := h_x0r0r1.ext hO
                  have h_x0r0r2 := h_x0r0r2.ext hO
                  have hF := hF.trans (hO.mono (fun _ _ z => z.elim))
                  refine r_ifz_eq (tgt := 654) hx hb dX0_areAnswers_633 (by decide) (fun c113 => ?_) (fun c113 => ?_)
                  · have h := it_neg h (by rw [c113]; decide)
                    refine W.widen (k := 2005) (n := 22193) (Nat.le_of_ble_eq_true rfl) (Nat.le_of_ble_eq_true rfl) ?_
                    exact HK104  h H locs hS hF h_x0 h_x0r0 h_x0r0r0 h_x0r0r1 h_x0r0r2 ls (lv_sub hl [0, 1, 2, 3, 4, 6] rfl)
                  · have h := it_pos h (by rw [c113])
                    refine lv_aload_n hx hb dX0_areAnswers_636 rfl (lv_at hl 0 rfl) ?_
                    refine r_get hx hb hts hown hS h_x0 rfl in_X0 0 (by decide) q936 rfl (v := .ref x0r0) rfl dX0_areAnswers_637 ?_
                    refine lv_iconst (v := 1) hx hb dX0_areAnswers_640 (by decide) ?_
                    refine lv_iload_n hx hb dX0_areAnswers_641 rfl (lv_at hl 1 rfl) ?_
                    refine lv_bipush (v := 7) hx hb dX0_areAnswers_642 (by decide) ?_
                    obtain ⟨o114, eo114, h⟩ := bind_step h
                    refine r_ci (r_runV (rest := []) (As := [.int 1, .int x1, .int 7]) hC 3 (m_X1_order x0r0 x0r0r0 x0r0r1 x0r0r2  o13.2.2.1 f19 o13.2.2.2 o13.2.1 v20 x0r0f5 x0r0f6 1 x1 7 o114 eo114) q1576 q1577 q1578 q46 q1579 (OA.recv hS h_x0r0.OA (C := RX1) rfl) hd_X1_order rfl ⟨Nat.le_of_ble_eq_true rfl, Nat.le_of_ble_eq_true rfl⟩ hS ⟨h_x0r0, h_x0r0r0, h_x0r0r1, h_x0r0r2⟩ hl.1 rfl (Nat.le_of_ble_eq_true rfl) dX0_areAnswers_644 ⟨Nat.le_of_ble_eq_true rfl, Nat.le_of_ble_eq_true rfl⟩) hS (fun b H locs hp hS hz => ?_)
                    obtain ⟨eb_, hO⟩ := hp
                    rw [eb_]
                    have h_x0 := h_x0.ext hO
                    have h_x0r0 := h_x0r0.ext hO
                    have h_x0r0r0 := h_x0r0r0.ext hO
                    have h_x0r0r1 := h_x0r0r1.ext hO
                    have h_x0r0r2 := h_x0r0r2.ext hO
                    have hF := hF.trans (hO.mono (fun _ _ z => z.elim))
                    refine lv_if_ne (tgt := 654) hx hb dX0_areAnswers_647 (by decide) (fun c115 => ?_) (fun c115 => ?_)
                    · have h := it_neg h c115
                      exact HK104  h H locs hS hF h_x0 h_x0r0 h_x0r0r0 h_x0r0r1 h_x0r0r2 ls (lv_sub hl [0, 1, 2, 3, 4, 6] rfl)
                    · have h := it_pos h c115
                      refine lv_iconst (v := 1) hx hb dX0_areAnswers_650 (by decide) ?_
                      refine lv_goto (tgt := 655) hx hb dX0_areAnswers_651 (by decide) ?_
                      exact HK58 true h H locs hS hF h_x0 h_x0r0 h_x0r0r0 h_x0r0r1 h_x0r0r2 ls (lv_sub hl [0, 1, 2, 3, 4, 6] rfl)
        clear eK22
        obtain ⟨K118, eK118, h⟩ := lt_step h
        have HK118 : ∀ (f116 : Nat → UInt64) (v117 : Int32) (h : K118 f116 v117 = some r) (H : Heap) (locs : List Loc) (hS : St D s H locs) (hF : Off (fun a => a = x0r0 ∨ a = x0r0r0 ∨ a = x0r0r1 ∨ a = x0r0r2) s.heap H) (h_x0 : OA D 1 x0 [.ref x0r0] H) (h_x0r0 : ON D 0 x0r0 [.ref x0r0r0, .ref x0r0r1, .ref x0r0r2, .int o13.2.1, .int v117, .int x0r0f5, .int x0r0f6] H) (h_x0r0r0 : aD D x0r0r0 8 o13.2.2.1 H) (h_x0r0r1 : aD D x0r0r1 8 f116 H) (h_x0r0r2 : aZ D x0r0r2 8 o13.2.2.2 H) (ls : Array Slot) (hl : lv_has ls 22 [(0, .ref x0), (1, .int x1), (2, .int x2), (3, .long o1.1), (5, .long o2.1), (12, .int o11)]), W p l e R_X0_areAnswers s m A below meth c H locs 1519 16382 Q (F0 m 506 ls []) := by
          intro f116 v117 h H locs hS hF h_x0 h_x0r0 h_x0r0r0 h_x0r0r1 h_x0r0r2 ls hl
          subst eK118
          refine lv_iconst (v := 0) hx hb dX0_areAnswers_506 (by decide) ?_
          exact HK22 f116 v117 false h H locs hS hF h_x0 h_x0r0 h_x0r0r0 h_x0r0r1 h_x0r0r2 ls (lv_sub hl [0, 1, 2, 3, 4, 5] rfl)
        clear eK118
        refine r_ifz_eq (tgt := 506) hx hb dX0_areAnswers_396 (by decide) (fun c119 => ?_) (fun c119 => ?_)
        · have h := it_neg h (by rw [c119]; decide)
          refine W.widen (k := 1519) (n := 16382) (Nat.le_of_ble_eq_true rfl) (Nat.le_of_ble_eq_true rfl) ?_
          exact HK118 o16.2.2 o16.2.1 h H locs hS hF h_x0 h_x0r0 h_x0r0r0 h_x0r0r1 h_x0r0r2 ls (lv_sub hl [1, 2, 3, 4, 5, 6] rfl)
        · have h := it_pos h (by rw [c119])
          refine lv_aload_n hx hb dX0_areAnswers_399 rfl (lv_at hl 1 rfl) ?_
          refine r_get hx hb hts hown hS h_x0 rfl in_X0 0 (by decide) q936 rfl (v := .ref x0r0) rfl dX0_areAnswers_400 ?_
          refine lv_iconst (v := 3) hx hb dX0_areAnswers_403 (by decide) ?_
          obtain ⟨o120, eo120, h⟩ := bind_step h
          refine r_ci (r_runV (rest := []) (As := [.int 3]) hC 1 (m_X1_flip x0r0 x0r0r0 x0r0r1 x0r0r2  o13.2.2.1 o16.2.2 o13.2.2.2 o13.2.1 o16.2.1 x0r0f5 x0r0f6 3 o120 eo120) q1568 q1569 q1570 q46 q1571 (OA.recv hS h_x0r0.OA (C := RX1) rfl) hd_X1_flip rfl ⟨Nat.le_of_ble_eq_true rfl, Nat.le_of_ble_eq_true rfl⟩ hS ⟨h_x0r0, hB_h_x0r0, h_x0r0r0, h_x0r0r1, hB_h_x0r0r1, h_x0r0r2, ne_x0r0_x0r0r0, ne_x0r0_x0r0r1, ne_x0r0_x0r0r2, ne_x0r0r0_x0r0r1, ne_x0r0r1_x0r0r2⟩ hl.1 rfl (Nat.le_of_ble_eq_true rfl) dX0_areAnswers_404 ⟨Nat.le_of_ble_eq_true rfl, Nat.le_of_ble_eq_true rfl⟩) hS (fun b H locs hp hS hz => ?_)
          obtain ⟨rfl, h_x0r0, h_x0r0r1, hO⟩ := hp
          have h_x0 := h_x0.off hO (fun z => by rcases z with z | z <;> first | exact ne_x0_x0r0 z | exact ne_x0_x0r0r1 z)
          have h_x0r0r0 := h_x0r0r0.off hO (fun z => by rcases z with z | z <;> first | exact (Ne.symm ne_x0r0_x0r0r0) z | exact ne_x0r0r0_x0r0r1 z)
          have h_x0r0r2 := h_x0r0r2.off hO (fun z => by rcases z with z | z <;> first | exact (Ne.symm ne_x0r0_x0r0r2) z | exact (Ne.symm ne_x0r0r1_x0r0r2) z)
          have hF := hF.fresh hO (fun a ha z => by
            rcases z with z | z
            · exact Or.inl z
            · exact Or.inr (Or.inr (Or.inl z)))
          obtain ⟨v121, ev121, h⟩ := ltl_step h
          refine r_i2l hx hb ev121 dX0_areAnswers_407 ?_
          refine lv_aload_n hx hb dX0_areAnswers_408 rfl (lv_at hl 1 rfl) ?_
          refine r_get hx hb hts hown hS h_x0 rfl in_X0 0 (by decide) q936 rfl (v := .ref x0r0) rfl dX0_areAnswers_409 ?_
          refine lv_iconst (v := 0) hx hb dX0_areAnswers_412 (by decide) ?_
          obtain ⟨o122, eo122, h⟩ := bind_step h
          refine r_cr (r_runV (rest := [.long v121]) (As := [.int 0]) hC 1 (m_X1_heightText x0r0 x0r0r0 x0r0r1 x0r0r2  o13.2.2.1 o120.2.2 o13.2.2.2 o13.2.1 o120.2.1 x0r0f5 x0r0f6 0 o122 eo122) q1552 q1553 q1554 q46 q1555 (OA.recv hS h_x0r0.OA (C := RX1) rfl) hd_X1_heightText rfl ⟨Nat.le_of_ble_eq_true rfl, Nat.le_of_ble_eq_true rfl⟩ hS ⟨h_x0r0, h_x0r0r0, h_x0r0r1, h_x0r0r2⟩ hl.1 rfl (Nat.le_of_ble_eq_true rfl) dX0_areAnswers_413 ⟨Nat.le_of_ble_eq_true rfl, Nat.le_of_ble_eq_true rfl⟩) hS (fun ad123 H locs hp hS hz => ?_)
          obtain ⟨ad124, had123, had124, lo122_1, frad124, frad123, ne_ad123_ad124, hO⟩ := hp
          have ne_h_x0_had123 : x0 ≠ ad123 := Nat.ne_of_lt (Nat.lt_of_lt_of_le h_x0.lt frad123)
          have ne_h_x0r0_had123 : x0r0 ≠ ad123 := Nat.ne_of_lt (Nat.lt_of_lt_of_le h_x0r0.lt frad123)
          have ne_h_x0r0r0_had123 : x0r0r0 ≠ ad123 := Nat.ne_of_lt (Nat.lt_of_lt_of_le h_x0r0r0.lt frad123)
          have ne_h_x0r0r1_had123 : x0r0r1 ≠ ad123 := Nat.ne_of_lt (Nat.lt_of_lt_of_le h_x0r0r1.lt frad123)
          have ne_h_x0r0r2_had123 : x0r0r2 ≠ ad123 := Nat.ne_of_lt (Nat.lt_of_lt_of_le h_x0r0r2.lt frad123)
          have gad123 : s.heap.size ≤ ad123 := Nat.le_trans hF.1 frad123
          have hB_had123 : dB D ≤ ad123 := by have := hS0.1.2.2.1; omega
          have ne_h_x0_had124 : x0 ≠ ad124 := Nat.ne_of_lt (Nat.lt_of_lt_of_le h_x0.lt frad124)
          have ne_h_x0r0_had124 : x0r0 ≠ ad124 := Nat.ne_of_lt (Nat.lt_of_lt_of_le h_x0r0.lt frad124)
          have ne_h_x0r0r0_had124 : x0r0r0 ≠ ad124 := Nat.ne_of_lt (Nat.lt_of_lt_of_le h_x0r0r0.lt frad124)
          have ne_h_x0r0r1_had124 : x0r0r1 ≠ ad124 := Nat.ne_of_lt (Nat.lt_of_lt_of_le h_x0r0r1.lt frad124)
          have ne_h_x0r0r2_had124 : x0r0r2 ≠ ad124 := Nat.ne_of_lt (Nat.lt_of_lt_of_le h_x0r0r2.lt frad124)
          have gad124 : s.heap.size ≤ ad124 := Nat.le_trans hF.1 frad124
          have hB_had124 : dB D ≤ ad124 := by have := hS0.1.2.2.1; omega
          have h_x0 := h_x0.ext hO
          have h_x0r0 := h_x0r0.ext hO
          have h_x0r0r0 := h_x0r0r0.ext hO
          have h_x0r0r1 := h_x0r0r1.ext hO
          have h_x0r0r2 := h_x0r0r2.ext hO
          have hF := hF.trans (hO.mono (fun _ _ z => z.elim))
          refine lv_iconst (v := 0) hx hb dX0_areAnswers_416 (by decide) ?_
          obtain ⟨o125, eo125, h⟩ := bind_step h
          refine r_cl (r_runS (rest := [.long v121]) (As := [.ref ad123, .int 0]) hC 2 (m_X0_part ad123 ad124 0 0 o122.1 o122.2 0 o125 eo125) q1033 q1034 q39 q1035 hd_X0_part rfl ⟨Nat.le_of_ble_eq_true rfl, Nat.le_of_ble_eq_true rfl⟩ hS ⟨had123.OA, had124, lo122_1⟩ hl.1 rfl (Nat.le_of_ble_eq_true rfl) dX0_areAnswers_417 ⟨Nat.le_of_ble_eq_true rfl, Nat.le_of_ble_eq_true rfl⟩) hS (fun b H locs hp hS hz => ?_)
          obtain ⟨eb_, hO⟩ := hp
          rw [eb_]
          have h_x0 := h_x0.ext hO
          have h_x0r0 := h_x0r0.ext hO
          have h_x0r0r0 := h_x0r0r0.ext hO
          have h_x0r0r1 := h_x0r0r1.ext hO
          have h_x0r0r2 := h_x0r0r2.ext hO
          have had123 := had123.ext hO
          have had124 := had124.ext hO
          have hF := hF.trans (hO.mono (fun _ _ z => z.elim))
          obtain ⟨v126, ev126, h⟩ := lti_step h
          refine r_lcmp hx hb ev126 dX0_areAnswers_420 ?_
          refine lv_if_ne (tgt := 506) hx hb dX0_areAnswers_421 (by decide) (fun c127 => ?_) (fun c127 => ?_)
          · have h := it_neg h c127
            refine W.widen (k := 1519) (n := 16382) (Nat.le_of_ble_eq_true rfl) (Nat.le_of_ble_eq_true rfl) ?_
            exact HK118 o120.2.2 o120.2.1 h H locs hS hF h_x0 h_x0r0 h_x0r0r0 h_x0r0r1 h_x0r0r2 ls (lv_sub hl [1, 2, 3, 4, 5, 6] rfl)
          · have h := it_pos h c127
            refine lv_aload_n hx hb dX0_areAnswers_424 rfl (lv_at hl 1 rfl) ?_
            refine r_get hx hb hts hown hS h_x0 rfl in_X0 0 (by decide) q936 rfl (v := .ref x0r0) rfl dX0_areAnswers_425 ?_
            refine lv_iconst (v := 3) hx hb dX0_areAnswers_428 (by decide) ?_
            refine lv_iconst (v := 0) hx hb dX0_areAnswers_429 (by decide) ?_
            refine lv_iconst (v := 1) hx hb dX0_areAnswers_430 (by decide) ?_
            obtain ⟨o128, eo128, h⟩ := bind_step h
            refine r_cz (r_runV (rest := []) (As := [.int 3, .int 0, .int 1]) hC 3 (m_X1_heightSame x0r0 x0r0r0 x0r0r1 x0r0r2  o13.2.2.1 o120.2.2 o13.2.2.2 o13.2.1 o120.2.1 x0r0f5 x0r0f6 3 0 1 o128 eo128) q1562 q1563 q1564 q46 q1565 (OA.recv hS h_x0r0.OA (C := RX1) rfl) hd_X1_heightSame rfl ⟨Nat.le_of_ble_eq_true rfl, Nat.le_of_ble_eq_true rfl⟩ hS ⟨h_x0r0, h_x0r0r0, h_x0r0r1, h_x0r0r2⟩ hl.1 rfl (Nat.le_of_ble_eq_true rfl) dX0_areAnswers_431 ⟨Nat.le_of_ble_eq_true rfl, Nat.le_of_ble_eq_true rfl⟩) hS (fun b H locs hp hS hz => ?_)
            obtain ⟨eb_, hO⟩ := hp
            rw [eb_]
            have h_x0 := h_x0.ext hO
            have h_x0r0 := h_x0r0.ext hO
            have h_x0r0r0 := h_x0r0r0.ext hO
            have h_x0r0r1 := h_x0r0r1.ext hO
            have h_x0r0r2 := h_x0r0r2.ext hO
            have had123 := had123.ext hO
            have had124 := had124.ext hO
            have hF := hF.trans (hO.mono (fun _ _ z => z.elim))
            refine r_ifz_eq (tgt := 506) hx hb dX0_areAnswers_434 (by decide) (fun c129 => ?_) (fun c129 => ?_)
            · have h := it_neg h (by rw [c129]; decide)
              refine W.widen (k := 1519) (n := 16382) (Nat.le_of_ble_eq_true rfl) (Nat.le_of_ble_eq_true rfl) ?_
              exact HK118 o120.2.2 o120.2.1 h H locs hS hF h_x0 h_x0r0 h_x0r0r0 h_x0r0r1 h_x0r0r2 ls (lv_sub hl [1, 2, 3, 4, 5, 6] rfl)
            · have h := it_pos h (by rw [c129])
              refine lv_aload_n hx hb dX0_areAnswers_437 rfl (lv_at hl 1 rfl) ?_
              refine r_get hx hb hts hown hS h_x0 rfl in_X0 0 (by decide) q936 rfl (v := .ref x0r0) rfl dX0_areAnswers_438 ?_
              refine lv_iconst (v := 5) hx hb dX0_areAnswers_441 (by decide) ?_
              obtain ⟨o130, eo130, h⟩ := bind_step h
              refine r_ci (r_runV (rest := []) (As := [.int 5]) hC 1 (m_X1_flip x0r0 x0r0r0 x0r0r1 x0r0r2  o13.2.2.1 o120.2.2 o13.2.2.2 o13.2.1 o120.2.1 x0r0f5 x0r0f6 5 o130 eo130) q1568 q1569 q1570 q46 q1571 (OA.recv hS h_x0r0.OA (C := RX1) rfl) hd_X1_flip rfl ⟨Nat.le_of_ble_eq_true rfl, Nat.le_of_ble_eq_true rfl⟩ hS ⟨h_x0r0, hB_h_x0r0, h_x0r0r0, h_x0r0r1, hB_h_x0r0r1, h_x0r0r2, ne_x0r0_x0r0r0, ne_x0r0_x0r0r1, ne_x0r0_x0r0r2, ne_x0r0r0_x0r0r1, ne_x0r0r1_x0r0r2⟩ hl.1 rfl (Nat.le_of_ble_eq_true rfl) dX0_areAnswers_442 ⟨Nat.le_of_ble_eq_true rfl, Nat.le_of_ble_eq_true rfl⟩) hS (fun b H locs hp hS hz => ?_)
              obtain ⟨rfl, h_x0r0, h_x0r0r1, hO⟩ := hp
              have h_x0 := h_x0.off hO (fun z => by rcases z with z | z <;> first | exact ne_x0_x0r0 z | exact ne_x0_x0r0r1 z)
              have h_x0r0r0 := h_x0r0r0.off hO (fun z => by rcases z with z | z <;> first | exact (Ne.symm ne_x0r0_x0r0r0) z | exact ne_x0r0r0_x0r0r1 z)
              have h_x0r0r2 := h_x0r0r2.off hO (fun z => by rcases z with z | z <;> first | exact (Ne.symm ne_x0r0_x0r0r2) z | exact (Ne.symm ne_x0r0r1_x0r0r2) z)
              have had123 := had123.off hO (fun z => by rcases z with z | z <;> first | exact (Ne.symm ne_h_x0r0_had123) z | exact (Ne.symm ne_h_x0r0r1_had123) z)
              have had124 := had124.off hO (fun z => by rcases z with z | z <;> first | exact (Ne.symm ne_h_x0r0_had124) z | exact (Ne.symm ne_h_x0r0r1_had124) z)
              have hF := hF.fresh hO (fun a ha z => by
                rcases z with z | z
                · exact Or.inl z
                · exact Or.inr (Or.inr (Or.inl z)))
              obtain ⟨v131, ev131, h⟩ := ltl_step h
              refine r_i2l hx hb ev131 dX0_areAnswers_445 ?_
              refine lv_aload_n hx hb dX0_areAnswers_446 rfl (lv_at hl 1 rfl) ?_
              refine r_get hx hb hts hown hS h_x0 rfl in_X0 0 (by decide) q936 rfl (v := .ref x0r0) rfl dX0_areAnswers_447 ?_
              refine lv_iconst (v := 2) hx hb dX0_areAnswers_450 (by decide) ?_
              obtain ⟨o132, eo132, h⟩ := bind_step h
              refine r_cr (r_runV (rest := [.long v131]) (As := [.int 2]) hC 1 (m_X1_heightText x0r0 x0r0r0 x0r0r1 x0r0r2  o13.2.2.1 o130.2.2 o13.2.2.2 o13.2.1 o130.2.1 x0r0f5 x0r0f6 2 o132 eo132) q1552 q1553 q1554 q46 q1555 (OA.recv hS h_x0r0.OA (C := RX1) rfl) hd_X1_heightText rfl ⟨Nat.le_of_ble_eq_true rfl, Nat.le_of_ble_eq_true rfl⟩ hS ⟨h_x0r0, h_x0r0r0, h_x0r0r1, h_x0r0r2⟩ hl.1 rfl (Nat.le_of_ble_eq_true rfl) dX0_areAnswers_451 ⟨Nat.le_of_ble_eq_true rfl, Nat.le_of_ble_eq_true rfl⟩) hS (fun ad133 H locs hp hS hz => ?_)
              obtain ⟨ad134, had133, had134, lo132_1, frad134, frad133, ne_ad133_ad134, hO⟩ := hp
              have ne_h_x0_had133 : x0 ≠ ad133 := Nat.ne_of_lt (Nat.lt_of_lt_of_le h_x0.lt frad133)
              have ne_h_x0r0_had133 : x0r0 ≠ ad133 := Nat.ne_of_lt (Nat.lt_of_lt_of_le h_x0r0.lt frad133)
              have ne_h_x0r0r0_had133 : x0r0r0 ≠ ad133 := Nat.ne_of_lt (Nat.lt_of_lt_of_le h_x0r0r0.lt frad133)
              have ne_h_x0r0r1_had133 : x0r0r1 ≠ ad133 := Nat.ne_of_lt (Nat.lt_of_lt_of_le h_x0r0r1.lt frad133)
              have ne_h_x0r0r2_had133 : x0r0r2 ≠ ad133 := Nat.ne_of_lt (Nat.lt_of_lt_of_le h_x0r0r2.lt frad133)
              have ne_had123_had133 : ad123 ≠ ad133 := Nat.ne_of_lt (Nat.lt_of_lt_of_le had123.lt frad133)
              have ne_had124_had133 : ad124 ≠ ad133 := Nat.ne_of_lt (Nat.lt_of_lt_of_le had124.lt frad133)
              have gad133 : s.heap.size ≤ ad133 := Nat.le_trans hF.1 frad133
              have hB_had133 : dB D ≤ ad133 := by have := hS0.1.2.2.1; omega
              have ne_h_x0_had134 : x0 ≠ ad134 := Nat.ne_of_lt (Nat.lt_of_lt_of_le h_x0.lt frad134)
              have ne_h_x0r0_had134 : x0r0 ≠ ad134 := Nat.ne_of_lt (Nat.lt_of_lt_of_le h_x0r0.lt frad134)
              have ne_h_x0r0r0_had134 : x0r0r0 ≠ ad134 := Nat.ne_of_lt (Nat.lt_of_lt_of_le h_x0r0r0.lt frad134)
              have ne_h_x0r0r1_had134 : x0r0r1 ≠ ad134 := Nat.ne_of_lt (Nat.lt_of_lt_of_le h_x0r0r1.lt frad134)
              have ne_h_x0r0r2_had134 : x0r0r2 ≠ ad134 := Nat.ne_of_lt (Nat.lt_of_lt_of_le h_x0r0r2.lt frad134)
              have ne_had123_had134 : ad123 ≠ ad134 := Nat.ne_of_lt (Nat.lt_of_lt_of_le had123.lt frad134)
              have ne_had124_had134 : ad124 ≠ ad134 := Nat.ne_of_lt (Nat.lt_of_lt_of_le had124.lt frad134)
              have gad134 : s.heap.size ≤ ad134 := Nat.le_trans hF.1 frad134
              have hB_had134 : dB D ≤ ad134 := by have := hS0.1.2.2.1; omega
              have h_x0 := h_x0.ext hO
              have h_x0r0 := h_x0r0.ext hO
              have h_x0r0r0 := h_x0r0r0.ext hO
              have h_x0r0r1 := h_x0r0r1.ext hO
              have h_x0r0r2 := h_x0r0r2.ext hO
              have had123 := had123.ext hO
              have had124 := had124.ext hO
              have hF := hF.trans (hO.mono (fun _ _ z => z.elim))
              refine lv_iconst (v := 0) hx hb dX0_areAnswers_454 (by decide) ?_
              obtain ⟨o135, eo135, h⟩ := bind_step h
              refine r_cl (r_runS (rest := [.long v131]) (As := [.ref ad133, .int 0]) hC 2 (m_X0_part ad133 ad134 0 0 o132.1 o132.2 0 o135 eo135) q1033 q1034 q39 q1035 hd_X0_part rfl ⟨Nat.le_of_ble_eq_true rfl, Nat.le_of_ble_eq_true rfl⟩ hS ⟨had133.OA, had134, lo132_1⟩ hl.1 rfl (Nat.le_of_ble_eq_true rfl) dX0_areAnswers_455 ⟨Nat.le_of_ble_eq_true rfl, Nat.le_of_ble_eq_true rfl⟩) hS (fun b H locs hp hS hz => ?_)
              obtain ⟨eb_, hO⟩ := hp
              rw [eb_]
              have h_x0 := h_x0.ext hO
              have h_x0r0 := h_x0r0.ext hO
              have h_x0r0r0 := h_x0r0r0.ext hO
              have h_x0r0r1 := h_x0r0r1.ext hO
              have h_x0r0r2 := h_x0r0r2.ext hO
              have had123 := had123.ext hO
              have had124 := had124.ext hO
              have had133 := had133.ext hO
              have had134 := had134.ext hO
              have hF := hF.trans (hO.mono (fun _ _ z => z.elim))
              obtain ⟨v136, ev136, h⟩ := lti_step h
              refine r_lcmp hx hb ev136 dX0_areAnswers_458 ?_
              refine lv_if_ne (tgt := 506) hx hb dX0_areAnswers_459 (by decide) (fun c137 => ?_) (fun c137 => ?_)
              · have h := it_neg h c137
                refine W.widen (k := 1519) (n := 16382) (Nat.le_of_ble_eq_true rfl) (Nat.le_of_ble_eq_true rfl) ?_
                exact HK118 o130.2.2 o130.2.1 h H locs hS hF h_x0 h_x0r0 h_x0r0r0 h_x0r0r1 h_x0r0r2 ls (lv_sub hl [1, 2, 3, 4, 5, 6] rfl)
              · have h := it_pos h c137
                refine lv_aload_n hx hb dX0_areAnswers_462 rfl (lv_at hl 1 rfl) ?_
                refine r_get hx hb hts hown hS h_x0 rfl in_X0 0 (by decide) q936 rfl (v := .ref x0r0) rfl dX0_areAnswers_463 ?_
                refine lv_iconst (v := 5) hx hb dX0_areAnswers_466 (by decide) ?_
                refine lv_iconst (v := 2) hx hb dX0_areAnswers_467 (by decide) ?_
                refine lv_iconst (v := 2) hx hb dX0_areAnswers_468 (by decide) ?_
                obtain ⟨o138, eo138, h⟩ := bind_step h
                refine r_cz (r_runV (rest := []) (As := [.int 5, .int 2, .int 2]) hC 3 (m_X1_heightSame x0r0 x0r0r0 x0r0r1 x0r0r2  o13.2.2.1 o130.2.2 o13.2.2.2 o13.2.1 o130.2.1 x0r0f5 x0r0f6 5 2 2 o138 eo138) q1562 q1563 q1564 q46 q1565 (OA.recv hS h_x0r0.OA (C := RX1) rfl) hd_X1_heightSame rfl ⟨Nat.le_of_ble_eq_true rfl, Nat.le_of_ble_eq_true rfl⟩ hS ⟨h_x0r0, h_x0r0r0, h_x0r0r1, h_x0r0r2⟩ hl.1 rfl (Nat.le_of_ble_eq_true rfl) dX0_areAnswers_469 ⟨Nat.le_of_ble_eq_true rfl, Nat.le_of_ble_eq_true rfl⟩) hS (fun b H locs hp hS hz => ?_)
                obtain ⟨eb_, hO⟩ := hp
                rw [eb_]
                have h_x0 := h_x0.ext hO
                have h_x0r0 := h_x0r0.ext hO
                have h_x0r0r0 := h_x0r0r0.ext hO
                have h_x0r0r1 := h_x0r0r1.ext hO
                have h_x0r0r2 := h_x0r0r2.ext hO
                have had123 := had123.ext hO
                have had124 := had124.ext hO
                have had133 := had133.ext hO
                have had134 := had134.ext hO
                have hF := hF.trans (hO.mono (fun _ _ z => z.elim))
                refine r_ifz_eq (tgt := 506) hx hb dX0_areAnswers_472 (by decide) (fun c139 => ?_) (fun c139 => ?_)
                · have h := it_neg h (by rw [c139]; decide)
                  refine W.widen (k := 1519) (n := 16382) (Nat.le_of_ble_eq_true rfl) (Nat.le_of_ble_eq_true rfl) ?_
                  exact HK118 o130.2.2 o130.2.1 h H locs hS hF h_x0 h_x0r0 h_x0r0r0 h_x0r0r1 h_x0r0r2 ls (lv_sub hl [1, 2, 3, 4, 5, 6] rfl)
                · have h := it_pos h (by rw [c139])
                  refine lv_aload_n hx hb dX0_areAnswers_475 rfl (lv_at hl 1 rfl) ?_
                  refine r_get hx hb hts hown hS h_x0 rfl in_X0 0 (by decide) q936 rfl (v := .ref x0r0) rfl dX0_areAnswers_476 ?_
                  refine lv_iconst (v := 3) hx hb dX0_areAnswers_479 (by decide) ?_
                  refine lv_iconst (v := 0) hx hb dX0_areAnswers_480 (by decide) ?_
                  refine lv_iload_n hx hb dX0_areAnswers_481 rfl (lv_at hl 2 rfl) ?_
                  obtain ⟨o140, eo140, h⟩ := bind_step h
                  refine r_cz (r_runV (rest := []) (As := [.int 3, .int 0, .int x1]) hC 3 (m_X1_isAnswer x0r0 x0r0r0 x0r0r1 x0r0r2  o13.2.2.1 o130.2.2 o13.2.2.2 o13.2.1 o130.2.1 x0r0f5 x0r0f6 3 0 x1 o140 eo140) q1419 q1420 q1421 q46 q1422 (OA.recv hS h_x0r0.OA (C := RX1) rfl) hd_X1_isAnswer rfl ⟨Nat.le_of_ble_eq_true rfl, Nat.le_of_ble_eq_true rfl⟩ hS ⟨h_x0r0, h_x0r0r0, h_x0r0r1, h_x0r0r2⟩ hl.1 rfl (Nat.le_of_ble_eq_true rfl) dX0_areAnswers_482 ⟨Nat.le_of_ble_eq_true rfl, Nat.le_of_ble_eq_true rfl⟩) hS (fun b H locs hp hS hz => ?_)
                  obtain ⟨eb_, hO⟩ := hp
                  rw [eb_]
                  have h_x0 := h_x0.ext hO
                  have h_x0r0 := h_x0r0.ext hO
                  have h_x0r0r0 := h_x0r0r0.ext hO
                  have h_x0r0r1 := h_x0r0r1.ext hO
                  have h_x0r0r2 := h_x0r0r2.ext hO
                  have had123 := had123.ext hO
                  have had124 := had124.ext hO
                  have had133 := had133.ext hO
                  have had134 := had134.ext hO
                  have hF := hF.trans (hO.mono (fun _ _ z => z.elim))
                  refine r_ifz_eq (tgt := 506) hx hb dX0_areAnswers_485 (by decide) (fun c141 => ?_) (fun c141 => ?_)
                  · have h := it_neg h (by rw [c141]; decide)
                    refine W.widen (k := 1519) (n := 16382) (Nat.le_of_ble_eq_true rfl) (Nat.le_of_ble_eq_true rfl) ?_
                    exact HK118 o130.2.2 o130.2.1 h H locs hS hF h_x0 h_x0r0 h_x0r0r0 h_x0r0r1 h_x0r0r2 ls (lv_sub hl [1, 2, 3, 4, 5, 6] rfl)
                  · have h := it_pos h (by rw [c141])
                    refine lv_aload_n hx hb dX0_areAnswers_488 rfl (lv_at hl 1 rfl) ?_
                    refine r_get hx hb hts hown hS h_x0 rfl in_X0 0 (by decide) q936 rfl (v := .ref x0r0) rfl dX0_areAnswers_489 ?_
                    refine lv_iconst (v := 3) hx hb dX0_areAnswers_492 (by decide) ?_
                    refine lv_iconst (v := 0) hx hb dX0_areAnswers_493 (by decide) ?_
                    refine lv_bipush (v := 7) hx hb dX0_areAnswers_494 (by decide) ?_
                    obtain ⟨o142, eo142, h⟩ := bind_step h
                    refine r_cz (r_runV (rest := []) (As := [.int 3, .int 0, .int 7]) hC 3 (m_X1_isAnswer x0r0 x0r0r0 x0r0r1 x0r0r2  o13.2.2.1 o130.2.2 o13.2.2.2 o13.2.1 o130.2.1 x0r0f5 x0r0f6 3 0 7 o142 eo142) q1419 q1420 q1421 q46 q1422 (OA.recv hS h_x0r0.OA (C := RX1) rfl) hd_X1_isAnswer rfl ⟨Nat.le_of_ble_eq_true rfl, Nat.le_of_ble_eq_true rfl⟩ hS ⟨h_x0r0, h_x0r0r0, h_x0r0r1, h_x0r0r2⟩ hl.1 rfl (Nat.le_of_ble_eq_true rfl) dX0_areAnswers_496 ⟨Nat.le_of_ble_eq_true rfl, Nat.le_of_ble_eq_true rfl⟩) hS (fun b H locs hp hS hz => ?_)
                    obtain ⟨eb_, hO⟩ := hp
                    rw [eb_]
                    have h_x0 := h_x0.ext hO
                    have h_x0r0 := h_x0r0.ext hO
                    have h_x0r0r0 := h_x0r0r0.ext hO
                    have h_x0r0r1 := h_x0r0r1.ext hO
                    have h_x0r0r2 := h_x0r0r2.ext hO
                    have had123 := had123.ext hO
                    have had124 := had124.ext hO
                    have had133 := had133.ext hO
                    have had134 := had134.ext hO
                    have hF := hF.trans (hO.mono (fun _ _ z => z.elim))
                    refine r_ifz_ne (tgt := 506) hx hb dX0_areAnswers_499 (by decide) (fun c143 => ?_) (fun c143 => ?_)
                    · have h := it_pos h (by rw [c143])
                      exact HK118 o130.2.2 o130.2.1 h H locs hS hF h_x0 h_x0r0 h_x0r0r0 h_x0r0r1 h_x0r0r2 ls (lv_sub hl [1, 2, 3, 4, 5, 6] rfl)
                    · have h := it_neg h (by rw [c143]; decide)
                      refine lv_iconst (v := 1) hx hb dX0_areAnswers_502 (by decide) ?_
                      refine lv_goto (tgt := 507) hx hb dX0_areAnswers_503 (by decide) ?_
                      exact HK22 o130.2.2 o130.2.1 true h H locs hS hF h_x0 h_x0r0 h_x0r0r0 h_x0r0r1 h_x0r0r2 ls (lv_sub hl [1, 2, 3, 4, 5, 6] rfl)
      clear eK18
      obtain ⟨K144, eK144, h⟩ := lt_step h
      have HK144 : ∀  (h : K144 () = some r) (H : Heap) (locs : List Loc) (hS : St D s H locs) (hF : Off (fun a => a = x0r0 ∨ a = x0r0r0 ∨ a = x0r0r1 ∨ a = x0r0r2) s.heap H) (h_x0 : OA D 1 x0 [.ref x0r0] H) (h_x0r0 : ON D 0 x0r0 [.ref x0r0r0, .ref x0r0r1, .ref x0r0r2, .int o13.2.1, .int o16.2.1, .int x0r0f5, .int x0r0f6] H) (h_x0r0r0 : aD D x0r0r0 8 o13.2.2.1 H) (h_x0r0r1 : aD D x0r0r1 8 o16.2.2 H) (h_x0r0r2 : aZ D x0r0r2 8 o13.2.2.2 H) (ls : Array Slot) (hl : lv_has ls 22 [(0, .ref x0), (1, .int x1), (2, .int x2), (3, .long o1.1), (5, .long o2.1), (12, .int o11)]), W p l e R_X0_areAnswers s m A below meth c H locs 1485 15860 Q (F0 m 391 ls []) := by
        intro h H locs hS hF h_x0 h_x0r0 h_x0r0r0 h_x0r0r1 h_x0r0r2 ls hl
        subst eK144
        refine lv_iconst (v := 0) hx hb dX0_areAnswers_391 (by decide) ?_
        exact HK18 false h H locs hS hF h_x0 h_x0r0 h_x0r0r0 h_x0r0r1 h_x0r0r2 ls (lv_sub hl [0, 1, 2, 3, 4, 5] rfl)
      clear eK144
      refine r_ifz_eq (tgt := 391) hx hb dX0_areAnswers_283 (by decide) (fun c145 => ?_) (fun c145 => ?_)
      · have h := it_neg h (by rw [c145]; decide)
        refine W.widen (k := 1485) (n := 15860) (Nat.le_of_ble_eq_true rfl) (Nat.le_of_ble_eq_true rfl) ?_
        exact HK144  h H locs hS hF h_x0 h_x0r0 h_x0r0r0 h_x0r0r1 h_x0r0r2 ls (lv_sub hl [5, 6, 7, 8, 9, 3] rfl)
      · have h := it_pos h (by rw [c145])
        refine lv_lload hx hb dX0_areAnswers_286 (lv_at hl 1 rfl) ?_
        refine lv_lload hx hb dX0_areAnswers_288 (lv_at hl 9 rfl) ?_
        obtain ⟨v146, ev146, h⟩ := lti_step h
        refine r_lcmp hx hb ev146 dX0_areAnswers_290 ?_
        refine lv_if_ne (tgt := 391) hx hb dX0_areAnswers_291 (by decide) (fun c147 => ?_) (fun c147 => ?_)
        · have h := it_neg h c147
          refine W.widen (k := 1485) (n := 15860) (Nat.le_of_ble_eq_true rfl) (Nat.le_of_ble_eq_true rfl) ?_
          exact HK144  h H locs hS hF h_x0 h_x0r0 h_x0r0r0 h_x0r0r1 h_x0r0r2 ls (lv_sub hl [5, 6, 7, 8, 9, 3] rfl)
        · have h := it_pos h c147
          refine lv_aload_n hx hb dX0_areAnswers_294 rfl (lv_at hl 5 rfl) ?_
          refine r_get hx hb hts hown hS h_x0 rfl in_X0 0 (by decide) q936 rfl (v := .ref x0r0) rfl dX0_areAnswers_295 ?_
          refine lv_iconst (v := 4) hx hb dX0_areAnswers_298 (by decide) ?_
          refine lv_iconst (v := 1) hx hb dX0_areAnswers_299 (by decide) ?_
          refine lv_iload_n hx hb dX0_areAnswers_300 rfl (lv_at hl 7 rfl) ?_
          refine lv_iconst (v := 1) hx hb dX0_areAnswers_301 (by decide) ?_
          obtain ⟨v148, ev148, h⟩ := lti_step h
          refine r_iand hx hb ev148 dX0_areAnswers_302 ?_
          obtain ⟨o149, eo149, h⟩ := bind_step h
          refine r_cz (r_runV (rest := []) (As := [.int 4, .int 1, .int v148]) hC 3 (m_X1_heightSame x0r0 x0r0r0 x0r0r1 x0r0r2  o13.2.2.1 o16.2.2 o13.2.2.2 o13.2.1 o16.2.1 x0r0f5 x0r0f6 4 1 v148 o149 eo149) q1562 q1563 q1564 q46 q1565 (OA.recv hS h_x0r0.OA (C := RX1) rfl) hd_X1_heightSame rfl ⟨Nat.le_of_ble_eq_true rfl, Nat.le_of_ble_eq_true rfl⟩ hS ⟨h_x0r0, h_x0r0r0, h_x0r0r1, h_x0r0r2⟩ hl.1 rfl (Nat.le_of_ble_eq_true rfl) dX0_areAnswers_303 ⟨Nat.le_of_ble_eq_true rfl, Nat.le_of_ble_eq_true rfl⟩) hS (fun b H locs hp hS hz => ?_)
          obtain ⟨eb_, hO⟩ := hp
          rw [eb_]
          have h_x0 := h_x0.ext hO
          have h_x0r0 := h_x0r0.ext hO
          have h_x0r0r0 := h_x0r0r0.ext hO
          have h_x0r0r1 := h_x0r0r1.ext hO
          have h_x0r0r2 := h_x0r0r2.ext hO
          have hF := hF.trans (hO.mono (fun _ _ z => z.elim))
          refine r_ifz_eq (tgt := 391) hx hb dX0_areAnswers_306 (by decide) (fun c150 => ?_) (fun c150 => ?_)
          · have h := it_neg h (by rw [c150]; decide)
            refine W.widen (k := 1485) (n := 15860) (Nat.le_of_ble_eq_true rfl) (Nat.le_of_ble_eq_true rfl) ?_
            exact HK144  h H locs hS hF h_x0 h_x0r0 h_x0r0r0 h_x0r0r1 h_x0r0r2 ls (lv_sub hl [5, 6, 7, 8, 9, 3] rfl)
          · have h := it_pos h (by rw [c150])
            refine lv_lload hx hb dX0_areAnswers_309 (lv_at hl 2 rfl) ?_
            refine lv_iload hx hb dX0_areAnswers_311 (lv_at hl 3 rfl) ?_
            obtain ⟨K152, eK152, h⟩ := lt_step h
            have HK152 : ∀ (v151 : Int64) (h : K152 v151 = some r) (H : Heap) (locs : List Loc) (hS : St D s H locs) (hF : Off (fun a => a = x0r0 ∨ a = x0r0r0 ∨ a = x0r0r1 ∨ a = x0r0r2) s.heap H) (h_x0 : OA D 1 x0 [.ref x0r0] H) (h_x0r0 : ON D 0 x0r0 [.ref x0r0r0, .ref x0r0r1, .ref x0r0r2, .int o13.2.1, .int o16.2.1, .int x0r0f5, .int x0r0f6] H) (h_x0r0r0 : aD D x0r0r0 8 o13.2.2.1 H) (h_x0r0r1 : aD D x0r0r1 8 o16.2.2 H) (h_x0r0r2 : aZ D x0r0r2 8 o13.2.2.2 H) (ls : Array Slot) (hl : lv_has ls 22 [(0, .ref x0), (1, .int x1), (2, .int x2), (3, .long o1.1), (5, .long o2.1), (7, .long o3.1), (12, .int o11), (17, .long o16.1)]), W p l e R_X0_areAnswers s m A below meth c H locs 1479 15854 Q (F0 m 325 ls [.long v151, .long o14.1]) := by
              intro v151 h H locs hS hF h_x0 h_x0r0 h_x0r0r0 h_x0r0r1 h_x0r0r2 ls hl
              subst eK152
              obtain ⟨v153, ev153, h⟩ := lti_step h
              refine r_lcmp hx hb ev153 dX0_areAnswers_325 ?_
              refine lv_if_ne (tgt := 391) hx hb dX0_areAnswers_326 (by decide) (fun c154 => ?_) (fun c154 => ?_)
              · have h := it_neg h c154
                refine W.widen (k := 1485) (n := 15860) (Nat.le_of_ble_eq_true rfl) (Nat.le_of_ble_eq_true rfl) ?_
                exact HK144  h H locs hS hF h_x0 h_x0r0 h_x0r0r0 h_x0r0r1 h_x0r0r2 ls (lv_sub hl [0, 1, 2, 3, 4, 6] rfl)
              · have h := it_pos h c154
                refine lv_lload hx hb dX0_areAnswers_329 (lv_at hl 7 rfl) ?_
                refine lv_iload hx hb dX0_areAnswers_331 (lv_at hl 6 rfl) ?_
                obtain ⟨K156, eK156, h⟩ := lt_step h
                have HK156 : ∀ (v155 : Int64) (h : K156 v155 = some r) (H : Heap) (locs : List Loc) (hS : St D s H locs) (hF : Off (fun a => a = x0r0 ∨ a = x0r0r0 ∨ a = x0r0r1 ∨ a = x0r0r2) s.heap H) (h_x0 : OA D 1 x0 [.ref x0r0] H) (h_x0r0 : ON D 0 x0r0 [.ref x0r0r0, .ref x0r0r1, .ref x0r0r2, .int o13.2.1, .int o16.2.1, .int x0r0f5, .int x0r0f6] H) (h_x0r0r0 : aD D x0r0r0 8 o13.2.2.1 H) (h_x0r0r1 : aD D x0r0r1 8 o16.2.2 H) (h_x0r0r2 : aZ D x0r0r2 8 o13.2.2.2 H) (ls : Array Slot) (hl : lv_has ls 22 [(0, .ref x0), (1, .int x1), (2, .int x2), (3, .long o1.1), (5, .long o2.1), (12, .int o11)]), W p l e R_X0_areAnswers s m A below meth c H locs 1479 15854 Q (F0 m 346 ls [.long v155, .long o16.1]) := by
                  intro v155 h H locs hS hF h_x0 h_x0r0 h_x0r0r0 h_x0r0r1 h_x0r0r2 ls hl
                  subst eK156
                  obtain ⟨v157, ev157, h⟩ := lti_step h
                  refine r_lcmp hx hb ev157 dX0_areAnswers_346 ?_
                  refine lv_if_ne (tgt := 391) hx hb dX0_areAnswers_347 (by decide) (fun c158 => ?_) (fun c158 => ?_)
                  · have h := it_neg h c158
                    refine W.widen (k := 1485) (n := 15860) (Nat.le_of_ble_eq_true rfl) (Nat.le_of_ble_eq_true rfl) ?_
                    exact HK144  h H locs hS hF h_x0 h_x0r0 h_x0r0r0 h_x0r0r1 h_x0r0r2 ls (lv_sub hl [0, 1, 2, 3, 4, 5] rfl)
                  · have h := it_pos h c158
                    refine lv_aload_n hx hb dX0_areAnswers_350 rfl (lv_at hl 0 rfl) ?_
                    refine r_get hx hb hts hown hS h_x0 rfl in_X0 0 (by decide) q936 rfl (v := .ref x0r0) rfl dX0_areAnswers_351 ?_
                    refine lv_iconst (v := 3) hx hb dX0_areAnswers_354 (by decide) ?_
                    refine lv_iconst (v := 0) hx hb dX0_areAnswers_355 (by decide) ?_
                    refine lv_iconst (v := 0) hx hb dX0_areAnswers_356 (by decide) ?_
                    obtain ⟨o159, eo159, h⟩ := bind_step h
                    refine r_cz (r_runV (rest := []) (As := [.int 3, .int 0, .int 0]) hC 3 (m_X1_heightSame x0r0 x0r0r0 x0r0r1 x0r0r2  o13.2.2.1 o16.2.2 o13.2.2.2 o13.2.1 o16.2.1 x0r0f5 x0r0f6 3 0 0 o159 eo159) q1562 q1563 q1564 q46 q1565 (OA.recv hS h_x0r0.OA (C := RX1) rfl) hd_X1_heightSame rfl ⟨Nat.le_of_ble_eq_true rfl, Nat.le_of_ble_eq_true rfl⟩ hS ⟨h_x0r0, h_x0r0r0, h_x0r0r1, h_x0r0r2⟩ hl.1 rfl (Nat.le_of_ble_eq_true rfl) dX0_areAnswers_357 ⟨Nat.le_of_ble_eq_true rfl, Nat.le_of_ble_eq_true rfl⟩) hS (fun b H locs hp hS hz => ?_)
                    obtain ⟨eb_, hO⟩ := hp
                    rw [eb_]
                    have h_x0 := h_x0.ext hO
                    have h_x0r0 := h_x0r0.ext hO
                    have h_x0r0r0 := h_x0r0r0.ext hO
                    have h_x0r0r1 := h_x0r0r1.ext hO
                    have h_x0r0r2 := h_x0r0r2.ext hO
                    have hF := hF.trans (hO.mono (fun _ _ z => z.elim))
                    refine r_ifz_ne (tgt := 391) hx hb dX0_areAnswers_360 (by decide) (fun c160 => ?_) (fun c160 => ?_)
                    · have h := it_pos h (by rw [c160])
                      refine W.widen (k := 1485) (n := 15860) (Nat.le_of_ble_eq_true rfl) (Nat.le_of_ble_eq_true rfl) ?_
                      exact HK144  h H locs hS hF h_x0 h_x0r0 h_x0r0r0 h_x0r0r1 h_x0r0r2 ls (lv_sub hl [0, 1, 2, 3, 4, 5] rfl)
                    · have h := it_neg h (by rw [c160]; decide)
                      refine lv_aload_n hx hb dX0_areAnswers_363 rfl (lv_at hl 0 rfl) ?_
                      refine r_get hx hb hts hown hS h_x0 rfl in_X0 0 (by decide) q936 rfl (v := .ref x0r0) rfl dX0_areAnswers_364 ?_
                      refine lv_iconst (v := 3) hx hb dX0_areAnswers_367 (by decide) ?_
                      refine lv_iconst (v := 0) hx hb dX0_areAnswers_368 (by decide) ?_
                      obtain ⟨o161, eo161, h⟩ := bind_step h
                      refine r_ci (r_runV (rest := []) (As := [.int 3, .int 0]) hC 2 (m_X1_sizeOrder x0r0 x0r0r0 x0r0r1 x0r0r2  o13.2.2.1 o16.2.2 o13.2.2.2 o13.2.1 o16.2.1 x0r0f5 x0r0f6 3 0 o161 eo161) q1567 q1320 q1321 q46 q1322 (OA.recv hS h_x0r0.OA (C := RX1) rfl) hd_X1_sizeOrder rfl ⟨Nat.le_of_ble_eq_true rfl, Nat.le_of_ble_eq_true rfl⟩ hS ⟨h_x0r0, h_x0r0r0, h_x0r0r1, h_x0r0r2⟩ hl.1 rfl (Nat.le_of_ble_eq_true rfl) dX0_areAnswers_369 ⟨Nat.le_of_ble_eq_true rfl, Nat.le_of_ble_eq_true rfl⟩) hS (fun b H locs hp hS hz => ?_)
                      obtain ⟨eb_, hO⟩ := hp
                      rw [eb_]
                      have h_x0 := h_x0.ext hO
                      have h_x0r0 := h_x0r0.ext hO
                      have h_x0r0r0 := h_x0r0r0.ext hO
                      have h_x0r0r1 := h_x0r0r1.ext hO
                      have h_x0r0r2 := h_x0r0r2.ext hO
                      have hF := hF.trans (hO.mono (fun _ _ z => z.elim))
                      refine lv_if_ne (tgt := 391) hx hb dX0_areAnswers_372 (by decide) (fun c162 => ?_) (fun c162 => ?_)
                      · have h := it_neg h c162
                        refine W.widen (k := 1485) (n := 15860) (Nat.le_of_ble_eq_true rfl) (Nat.le_of_ble_eq_true rfl) ?_
                        exact HK144  h H locs hS hF h_x0 h_x0r0 h_x0r0r0 h_x0r0r1 h_x0r0r2 ls (lv_sub hl [0, 1, 2, 3, 4, 5] rfl)
                      · have h := it_pos h c162
                        refine lv_aload_n hx hb dX0_areAnswers_375 rfl (lv_at hl 0 rfl) ?_
                        refine r_get hx hb hts hown hS h_x0 rfl in_X0 0 (by decide) q936 rfl (v := .ref x0r0) rfl dX0_areAnswers_376 ?_
                        refine lv_iconst (v := 5) hx hb dX0_areAnswers_379 (by decide) ?_
                        refine lv_iconst (v := 2) hx hb dX0_areAnswers_380 (by decide) ?_
                        obtain ⟨o163, eo163, h⟩ := bind_step h
                        refine r_ci (r_runV (rest := []) (As := [.int 5, .int 2]) hC 2 (m_X1_sizeOrder x0r0 x0r0r0 x0r0r1 x0r0r2  o13.2.2.1 o16.2.2 o13.2.2.2 o13.2.1 o16.2.1 x0r0f5 x0r0f6 5 2 o163 eo163) q1567 q1320 q1321 q46 q1322 (OA.recv hS h_x0r0.OA (C := RX1) rfl) hd_X1_sizeOrder rfl ⟨Nat.le_of_ble_eq_true rfl, Nat.le_of_ble_eq_true rfl⟩ hS ⟨h_x0r0, h_x0r0r0, h_x0r0r1, h_x0r0r2⟩ hl.1 rfl (Nat.le_of_ble_eq_true rfl) dX0_areAnswers_381 ⟨Nat.le_of_ble_eq_true rfl, Nat.le_of_ble_eq_true rfl⟩) hS (fun b H locs hp hS hz => ?_)
                        obtain ⟨eb_, hO⟩ := hp
                        rw [eb_]
                        have h_x0 := h_x0.ext hO
                        have h_x0r0 := h_x0r0.ext hO
                        have h_x0r0r0 := h_x0r0r0.ext hO
                        have h_x0r0r1 := h_x0r0r1.ext hO
                        have h_x0r0r2 := h_x0r0r2.ext hO
                        have hF := hF.trans (hO.mono (fun _ _ z => z.elim))
                        refine lv_if_ne (tgt := 391) hx hb dX0_areAnswers_384 (by decide) (fun c164 => ?_) (fun c164 => ?_)
                        · have h := it_neg h c164
                          exact HK144  h H locs hS hF h_x0 h_x0r0 h_x0r0r0 h_x0r0r1 h_x0r0r2 ls (lv_sub hl [0, 1, 2, 3, 4, 5] rfl)
                        · have h := it_pos h c164
                          refine lv_iconst (v := 1) hx hb dX0_areAnswers_387 (by decide) ?_
                          refine lv_goto (tgt := 392) hx hb dX0_areAnswers_388 (by decide) ?_
                          exact HK18 true h H locs hS hF h_x0 h_x0r0 h_x0r0r0 h_x0r0r1 h_x0r0r2 ls (lv_sub hl [0, 1, 2, 3, 4, 5] rfl)
                clear eK156
                refine lv_if_ne (tgt := 340) hx hb dX0_areAnswers_333 (by decide) (fun c165 => ?_) (fun c165 => ?_)
                · have h := it_neg h c165
                  refine lv_ldc2 hx hb (v := (-1)) hown (hts _ q1566) dX0_areAnswers_340 ?_
                  refine lv_lload hx hb dX0_areAnswers_343 (lv_at hl 5 rfl) ?_
                  obtain ⟨v166, ev166, h⟩ := ltl_step h
                  refine r_lsub hx hb ev166 dX0_areAnswers_345 ?_
                  exact HK156 v166 h H locs hS hF h_x0 h_x0r0 h_x0r0r0 h_x0r0r1 h_x0r0r2 ls (lv_sub hl [0, 1, 2, 3, 4, 6] rfl)
                · have h := it_pos h c165
                  refine lv_lconst (v := 0) hx hb dX0_areAnswers_336 rfl ?_
                  refine lv_goto (tgt := 346) hx hb dX0_areAnswers_337 (by decide) ?_
                  exact HK156 0 h H locs hS hF h_x0 h_x0r0 h_x0r0r0 h_x0r0r1 h_x0r0r2 ls (lv_sub hl [0, 1, 2, 3, 4, 6] rfl)
            clear eK152
            refine lv_if_ne (tgt := 320) hx hb dX0_areAnswers_313 (by decide) (fun c167 => ?_) (fun c167 => ?_)
            · have h := it_neg h c167
              refine lv_ldc2 hx hb (v := (-1)) hown (hts _ q1566) dX0_areAnswers_320 ?_
              refine lv_lload_n hx hb dX0_areAnswers_323 rfl (lv_at hl 8 rfl) ?_
              obtain ⟨v168, ev168, h⟩ := ltl_step h
              refine r_lsub hx hb ev168 dX0_areAnswers_324 ?_
              exact HK152 v168 h H locs hS hF h_x0 h_x0r0 h_x0r0r0 h_x0r0r1 h_x0r0r2 ls (lv_sub hl [5, 6, 7, 8, 9, 10, 3, 0] rfl)
            · have h := it_pos h c167
              refine lv_lconst (v := 0) hx hb dX0_areAnswers_316 rfl ?_
              refine lv_goto (tgt := 325) hx hb dX0_areAnswers_317 (by decide) ?_
              exact HK152 0 h H locs hS hF h_x0 h_x0r0 h_x0r0r0 h_x0r0r1 h_x0r0r2 ls (lv_sub hl [5, 6, 7, 8, 9, 10, 3, 0] rfl)
    clear eK10
    obtain ⟨K169, eK169, h⟩ := lt_step h
    have HK169 : ∀  (h : K169 () = some r) (H : Heap) (locs : List Loc) (hS : St D s H locs) (hF : Off (fun a => a = x0r0 ∨ a = x0r0r0 ∨ a = x0r0r1 ∨ a = x0r0r2) s.heap H) (h_x0 : OA D 1 x0 [.ref x0r0] H) (h_x0r0 : ON D 0 x0r0 [.ref x0r0r0, .ref x0r0r1, .ref x0r0r2, .int x0r0f3, .int o3.2.1, .int x0r0f5, .int x0r0f6] H) (h_x0r0r0 : aD D x0r0r0 8 x0r0r0c H) (h_x0r0r1 : aD D x0r0r1 8 o3.2.2 H) (h_x0r0r2 : aZ D x0r0r2 8 x0r0r2c H) (ls : Array Slot) (hl : lv_has ls 22 [(0, .ref x0), (1, .int x1), (2, .int x2), (3, .long o1.1), (5, .long o2.1), (7, .long o3.1)]), W p l e R_X0_areAnswers s m A below meth c H locs 500 5959 Q (F0 m 217 ls []) := by
      intro h H locs hS hF h_x0 h_x0r0 h_x0r0r0 h_x0r0r1 h_x0r0r2 ls hl
      subst eK169
      refine lv_iconst (v := 0) hx hb dX0_areAnswers_217 (by decide) ?_
      exact HK10 false h H locs hS hF h_x0 h_x0r0 h_x0r0r0 h_x0r0r1 h_x0r0r2 ls (lv_sub hl [0, 1, 2, 3, 4, 5] rfl)
    clear eK169
    refine r_ifz_eq (tgt := 217) hx hb dX0_areAnswers_139 (by decide) (fun c170 => ?_) (fun c170 => ?_)
    · have h := it_neg h (by rw [c170]; decide)
      refine W.widen (k := 500) (n := 5959) (Nat.le_of_ble_eq_true rfl) (Nat.le_of_ble_eq_true rfl) ?_
      exact HK169  h H locs hS hF h_x0 h_x0r0 h_x0r0r0 h_x0r0r1 h_x0r0r2 ls (lv_sub hl [2, 3, 4, 5, 6, 7] rfl)
    · have h := it_pos h (by rw [c170])
      refine lv_lload hx hb dX0_areAnswers_142 (lv_at hl 0 rfl) ?_
      refine lv_lload hx hb dX0_areAnswers_144 (lv_at hl 6 rfl) ?_
      obtain ⟨v171, ev171, h⟩ := ltl_step h
      refine r_lmul hx hb ev171 dX0_areAnswers_146 ?_
      refine lv_lload_n hx hb dX0_areAnswers_147 rfl (lv_at hl 5 rfl) ?_
      refine lv_bipush (v := 12) hx hb dX0_areAnswers_148 (by decide) ?_
      obtain ⟨v172, ev172, h⟩ := ltl_step h
      refine r_lshl hx hb ev172 dX0_areAnswers_150 ?_
      refine lv_lload hx hb dX0_areAnswers_151 (lv_at hl 0 rfl) ?_
      obtain ⟨o173, eo173, h⟩ := bind_step h
      refine r_cp (r_runS (rest := [.long v172, .long v171]) (As := [.long v8]) hC 1 (m_X0_size   v8 o173 eo173) q1522 q1523 q39 q1524 hd_X0_size rfl ⟨Nat.le_of_ble_eq_true rfl, Nat.le_of_ble_eq_true rfl⟩ hS trivial hl.1 rfl (Nat.le_of_ble_eq_true rfl) dX0_areAnswers_153 ⟨Nat.le_of_ble_eq_true rfl, Nat.le_of_ble_eq_true rfl⟩) ?_
      refine lv_lload hx hb dX0_areAnswers_156 (lv_at hl 6 rfl) ?_
      obtain ⟨o174, eo174, h⟩ := bind_step h
      refine r_cp (r_runS (rest := [.long o173, .long v172, .long v171]) (As := [.long o2.1]) hC 1 (m_X0_size   o2.1 o174 eo174) q1522 q1523 q39 q1524 hd_X0_size rfl ⟨Nat.le_of_ble_eq_true rfl, Nat.le_of_ble_eq_true rfl⟩ hS trivial hl.1 rfl (Nat.le_of_ble_eq_true rfl) dX0_areAnswers_158 ⟨Nat.le_of_ble_eq_true rfl, Nat.le_of_ble_eq_true rfl⟩) ?_
      obtain ⟨v175, ev175, h⟩ := ltl_step h
      refine r_ladd hx hb ev175 dX0_areAnswers_161 ?_
      refine lv_ldc2 hx hb (v := 4100) hown (hts _ q1560) dX0_areAnswers_162 ?_
      obtain ⟨v176, ev176, h⟩ := ltl_step h
      refine r_ladd hx hb ev176 dX0_areAnswers_165 ?_
      obtain ⟨o177, eo177, h⟩ := bind_step h
      refine r_cp (r_runS (rest := []) (As := [.long v171, .long v172, .long v176]) hC 3 (m_X0_isNear   v171 v172 v176 o177 eo177) q1545 q1546 q39 q1547 hd_X0_isNear rfl ⟨Nat.le_of_ble_eq_true rfl, Nat.le_of_ble_eq_true rfl⟩ hS trivial hl.1 rfl (Nat.le_of_ble_eq_true rfl) dX0_areAnswers_166 ⟨Nat.le_of_ble_eq_true rfl, Nat.le_of_ble_eq_true rfl⟩) ?_
      refine r_ifz_eq (tgt := 217) hx hb dX0_areAnswers_169 (by decide) (fun c178 => ?_) (fun c178 => ?_)
      · have h := it_neg h (by rw [c178]; decide)
        refine W.widen (k := 500) (n := 5959) (Nat.le_of_ble_eq_true rfl) (Nat.le_of_ble_eq_true rfl) ?_
        exact HK169  h H locs hS hF h_x0 h_x0r0 h_x0r0r0 h_x0r0r1 h_x0r0r2 ls (lv_sub hl [2, 3, 4, 5, 6, 7] rfl)
      · have h := it_pos h (by rw [c178])
        refine lv_aload_n hx hb dX0_areAnswers_172 rfl (lv_at hl 2 rfl) ?_
        refine r_get hx hb hts hown hS h_x0 rfl in_X0 0 (by decide) q936 rfl (v := .ref x0r0) rfl dX0_areAnswers_173 ?_
        refine lv_iload_n hx hb dX0_areAnswers_176 rfl (lv_at hl 3 rfl) ?_
        obtain ⟨o179, eo179, h⟩ := bind_step h
        refine r_ci (r_runV (rest := []) (As := [.int x1]) hC 1 (m_X1_quarter x0r0 x0r0r0 x0r0r1 x0r0r2  x0r0r0c o3.2.2 x0r0r2c x0r0f3 o3.2.1 x0r0f5 x0r0f6 x1 o179 eo179) q1561 q1277 q1278 q46 q1279 (OA.recv hS h_x0r0.OA (C := RX1) rfl) hd_X1_quarter rfl ⟨Nat.le_of_ble_eq_true rfl, Nat.le_of_ble_eq_true rfl⟩ hS ⟨h_x0r0, h_x0r0r0, h_x0r0r1, h_x0r0r2⟩ hl.1 rfl (Nat.le_of_ble_eq_true rfl) dX0_areAnswers_177 ⟨Nat.le_of_ble_eq_true rfl, Nat.le_of_ble_eq_true rfl⟩) hS (fun b H locs hp hS hz => ?_)
        obtain ⟨eb_, hO⟩ := hp
        rw [eb_]
        have h_x0 := h_x0.ext hO
        have h_x0r0 := h_x0r0.ext hO
        have h_x0r0r0 := h_x0r0r0.ext hO
        have h_x0r0r1 := h_x0r0r1.ext hO
        have h_x0r0r2 := h_x0r0r2.ext hO
        have hF := hF.trans (hO.mono (fun _ _ z => z.elim))
        refine lv_ldc2 hx hb (v := 2) hown (hts _ q1518) dX0_areAnswers_180 ?_
        refine lv_aload_n hx hb dX0_areAnswers_183 rfl (lv_at hl 2 rfl) ?_
        refine r_get hx hb hts hown hS h_x0 rfl in_X0 0 (by decide) q936 rfl (v := .ref x0r0) rfl dX0_areAnswers_184 ?_
        refine lv_iconst (v := 0) hx hb dX0_areAnswers_187 (by decide) ?_
        obtain ⟨o180, eo180, h⟩ := bind_step h
        refine r_cr (r_runV (rest := [.long 2, .int o179]) (As := [.int 0]) hC 1 (m_X1_heightText x0r0 x0r0r0 x0r0r1 x0r0r2  x0r0r0c o3.2.2 x0r0r2c x0r0f3 o3.2.1 x0r0f5 x0r0f6 0 o180 eo180) q1552 q1553 q1554 q46 q1555 (OA.recv hS h_x0r0.OA (C := RX1) rfl) hd_X1_heightText rfl ⟨Nat.le_of_ble_eq_true rfl, Nat.le_of_ble_eq_true rfl⟩ hS ⟨h_x0r0, h_x0r0r0, h_x0r0r1, h_x0r0r2⟩ hl.1 rfl (Nat.le_of_ble_eq_true rfl) dX0_areAnswers_188 ⟨Nat.le_of_ble_eq_true rfl, Nat.le_of_ble_eq_true rfl⟩) hS (fun ad181 H locs hp hS hz => ?_)
        obtain ⟨ad182, had181, had182, lo180_1, frad182, frad181, ne_ad181_ad182, hO⟩ := hp
        have ne_h_x0_had181 : x0 ≠ ad181 := Nat.ne_of_lt (Nat.lt_of_lt_of_le h_x0.lt frad181)
        have ne_h_x0r0_had181 : x0r0 ≠ ad181 := Nat.ne_of_lt (Nat.lt_of_lt_of_le h_x0r0.lt frad181)
        have ne_h_x0r0r0_had181 : x0r0r0 ≠ ad181 := Nat.ne_of_lt (Nat.lt_of_lt_of_le h_x0r0r0.lt frad181)
        have ne_h_x0r0r1_had181 : x0r0r1 ≠ ad181 := Nat.ne_of_lt (Nat.lt_of_lt_of_le h_x0r0r1.lt frad181)
        have ne_h_x0r0r2_had181 : x0r0r2 ≠ ad181 := Nat.ne_of_lt (Nat.lt_of_lt_of_le h_x0r0r2.lt frad181)
        have gad181 : s.heap.size ≤ ad181 := Nat.le_trans hF.1 frad181
        have hB_had181 : dB D ≤ ad181 := by have := hS0.1.2.2.1; omega
        have ne_h_x0_had182 : x0 ≠ ad182 := Nat.ne_of_lt (Nat.lt_of_lt_of_le h_x0.lt frad182)
        have ne_h_x0r0_had182 : x0r0 ≠ ad182 := Nat.ne_of_lt (Nat.lt_of_lt_of_le h_x0r0.lt frad182)
        have ne_h_x0r0r0_had182 : x0r0r0 ≠ ad182 := Nat.ne_of_lt (Nat.lt_of_lt_of_le h_x0r0r0.lt frad182)
        have ne_h_x0r0r1_had182 : x0r0r1 ≠ ad182 := Nat.ne_of_lt (Nat.lt_of_lt_of_le h_x0r0r1.lt frad182)
        have ne_h_x0r0r2_had182 : x0r0r2 ≠ ad182 := Nat.ne_of_lt (Nat.lt_of_lt_of_le h_x0r0r2.lt frad182)
        have gad182 : s.heap.size ≤ ad182 := Nat.le_trans hF.1 frad182
        have hB_had182 : dB D ≤ ad182 := by have := hS0.1.2.2.1; omega
        have h_x0 := h_x0.ext hO
        have h_x0r0 := h_x0r0.ext hO
        have h_x0r0r0 := h_x0r0r0.ext hO
        have h_x0r0r1 := h_x0r0r1.ext hO
        have h_x0r0r2 := h_x0r0r2.ext hO
        have hF := hF.trans (hO.mono (fun _ _ z => z.elim))
        refine lv_iconst (v := 0) hx hb dX0_areAnswers_191 (by decide) ?_
        obtain ⟨o183, eo183, h⟩ := bind_step h
        refine r_cl (r_runS (rest := [.long 2, .int o179]) (As := [.ref ad181, .int 0]) hC 2 (m_X0_part ad181 ad182 0 0 o180.1 o180.2 0 o183 eo183) q1033 q1034 q39 q1035 hd_X0_part rfl ⟨Nat.le_of_ble_eq_true rfl, Nat.le_of_ble_eq_true rfl⟩ hS ⟨had181.OA, had182, lo180_1⟩ hl.1 rfl (Nat.le_of_ble_eq_true rfl) dX0_areAnswers_192 ⟨Nat.le_of_ble_eq_true rfl, Nat.le_of_ble_eq_true rfl⟩) hS (fun b H locs hp hS hz => ?_)
        obtain ⟨eb_, hO⟩ := hp
        rw [eb_]
        have h_x0 := h_x0.ext hO
        have h_x0r0 := h_x0r0.ext hO
        have h_x0r0r0 := h_x0r0r0.ext hO
        have h_x0r0r1 := h_x0r0r1.ext hO
        have h_x0r0r2 := h_x0r0r2.ext hO
        have had181 := had181.ext hO
        have had182 := had182.ext hO
        have hF := hF.trans (hO.mono (fun _ _ z => z.elim))
        obtain ⟨v184, ev184, h⟩ := ltl_step h
        refine r_lmul hx hb ev184 dX0_areAnswers_195 ?_
        refine lv_aload_n hx hb dX0_areAnswers_196 rfl (lv_at hl 2 rfl) ?_
        refine r_get hx hb hts hown hS h_x0 rfl in_X0 0 (by decide) q936 rfl (v := .ref x0r0) rfl dX0_areAnswers_197 ?_
        refine lv_iconst (v := 1) hx hb dX0_areAnswers_200 (by decide) ?_
        obtain ⟨o185, eo185, h⟩ := bind_step h
        refine r_cr (r_runV (rest := [.long v184, .int o179]) (As := [.int 1]) hC 1 (m_X1_heightText x0r0 x0r0r0 x0r0r1 x0r0r2  x0r0r0c o3.2.2 x0r0r2c x0r0f3 o3.2.1 x0r0f5 x0r0f6 1 o185 eo185) q1552 q1553 q1554 q46 q1555 (OA.recv hS h_x0r0.OA (C := RX1) rfl) hd_X1_heightText rfl ⟨Nat.le_of_ble_eq_true rfl, Nat.le_of_ble_eq_true rfl⟩ hS ⟨h_x0r0, h_x0r0r0, h_x0r0r1, h_x0r0r2⟩ hl.1 rfl (Nat.le_of_ble_eq_true rfl) dX0_areAnswers_201 ⟨Nat.le_of_ble_eq_true rfl, Nat.le_of_ble_eq_true rfl⟩) hS (fun ad186 H locs hp hS hz => ?_)
        obtain ⟨ad187, had186, had187, lo185_1, frad187, frad186, ne_ad186_ad187, hO⟩ := hp
        have ne_h_x0_had186 : x0 ≠ ad186 := Nat.ne_of_lt (Nat.lt_of_lt_of_le h_x0.lt frad186)
        have ne_h_x0r0_had186 : x0r0 ≠ ad186 := Nat.ne_of_lt (Nat.lt_of_lt_of_le h_x0r0.lt frad186)
        have ne_h_x0r0r0_had186 : x0r0r0 ≠ ad186 := Nat.ne_of_lt (Nat.lt_of_lt_of_le h_x0r0r0.lt frad186)
        have ne_h_x0r0r1_had186 : x0r0r1 ≠ ad186 := Nat.ne_of_lt (Nat.lt_of_lt_of_le h_x0r0r1.lt frad186)
        have ne_h_x0r0r2_had186 : x0r0r2 ≠ ad186 := Nat.ne_of_lt (Nat.lt_of_lt_of_le h_x0r0r2.lt frad186)
        have ne_had181_had186 : ad181 ≠ ad186 := Nat.ne_of_lt (Nat.lt_of_lt_of_le had181.lt frad186)
        have ne_had182_had186 : ad182 ≠ ad186 := Nat.ne_of_lt (Nat.lt_of_lt_of_le had182.lt frad186)
        have gad186 : s.heap.size ≤ ad186 := Nat.le_trans hF.1 frad186
        have hB_had186 : dB D ≤ ad186 := by have := hS0.1.2.2.1; omega
        have ne_h_x0_had187 : x0 ≠ ad187 := Nat.ne_of_lt (Nat.lt_of_lt_of_le h_x0.lt frad187)
        have ne_h_x0r0_had187 : x0r0 ≠ ad187 := Nat.ne_of_lt (Nat.lt_of_lt_of_le h_x0r0.lt frad187)
        have ne_h_x0r0r0_had187 : x0r0r0 ≠ ad187 := Nat.ne_of_lt (Nat.lt_of_lt_of_le h_x0r0r0.lt frad187)
        have ne_h_x0r0r1_had187 : x0r0r1 ≠ ad187 := Nat.ne_of_lt (Nat.lt_of_lt_of_le h_x0r0r1.lt frad187)
        have ne_h_x0r0r2_had187 : x0r0r2 ≠ ad187 := Nat.ne_of_lt (Nat.lt_of_lt_of_le h_x0r0r2.lt frad187)
        have ne_had181_had187 : ad181 ≠ ad187 := Nat.ne_of_lt (Nat.lt_of_lt_of_le had181.lt frad187)
        have ne_had182_had187 : ad182 ≠ ad187 := Nat.ne_of_lt (Nat.lt_of_lt_of_le had182.lt frad187)
        have gad187 : s.heap.size ≤ ad187 := Nat.le_trans hF.1 frad187
        have hB_had187 : dB D ≤ ad187 := by have := hS0.1.2.2.1; omega
        have h_x0 := h_x0.ext hO
        have h_x0r0 := h_x0r0.ext hO
        have h_x0r0r0 := h_x0r0r0.ext hO
        have h_x0r0r1 := h_x0r0r1.ext hO
        have h_x0r0r2 := h_x0r0r2.ext hO
        have had181 := had181.ext hO
        have had182 := had182.ext hO
        have hF := hF.trans (hO.mono (fun _ _ z => z.elim))
        refine lv_iconst (v := 0) hx hb dX0_areAnswers_204 (by decide) ?_
        obtain ⟨o188, eo188, h⟩ := bind_step h
        refine r_cl (r_runS (rest := [.long v184, .int o179]) (As := [.ref ad186, .int 0]) hC 2 (m_X0_part ad186 ad187 0 0 o185.1 o185.2 0 o188 eo188) q1033 q1034 q39 q1035 hd_X0_part rfl ⟨Nat.le_of_ble_eq_true rfl, Nat.le_of_ble_eq_true rfl⟩ hS ⟨had186.OA, had187, lo185_1⟩ hl.1 rfl (Nat.le_of_ble_eq_true rfl) dX0_areAnswers_205 ⟨Nat.le_of_ble_eq_true rfl, Nat.le_of_ble_eq_true rfl⟩) hS (fun b H locs hp hS hz => ?_)
        obtain ⟨eb_, hO⟩ := hp
        rw [eb_]
        have h_x0 := h_x0.ext hO
        have h_x0r0 := h_x0r0.ext hO
        have h_x0r0r0 := h_x0r0r0.ext hO
        have h_x0r0r1 := h_x0r0r1.ext hO
        have h_x0r0r2 := h_x0r0r2.ext hO
        have had181 := had181.ext hO
        have had182 := had182.ext hO
        have had186 := had186.ext hO
        have had187 := had187.ext hO
        have hF := hF.trans (hO.mono (fun _ _ z => z.elim))
        obtain ⟨v189, ev189, h⟩ := ltl_step h
        refine r_ladd hx hb ev189 dX0_areAnswers_208 ?_
        obtain ⟨v190, ev190, h⟩ := lti_step h
        refine r_l2i hx hb ev190 dX0_areAnswers_209 ?_
        refine lv_icmp_ne (tgt := 217) hx hb dX0_areAnswers_210 (by decide) (fun c191 => ?_) (fun c191 => ?_)
        · have h := it_neg h c191
          exact HK169  h H locs hS hF h_x0 h_x0r0 h_x0r0r0 h_x0r0r1 h_x0r0r2 ls (lv_sub hl [2, 3, 4, 5, 6, 7] rfl)
        · have h := it_pos h c191
          refine lv_iconst (v := 1) hx hb dX0_areAnswers_213 (by decide) ?_
          refine lv_goto (tgt := 218) hx hb dX0_areAnswers_214 (by decide) ?_
          exact HK10 true h H locs hS hF h_x0 h_x0r0 h_x0r0r0 h_x0r0r1 h_x0r0r2 ls (lv_sub hl [2, 3, 4, 5, 6, 7] rfl)
  clear eK7
  obtain ⟨K192, eK192, h⟩ := lt_step h
  have HK192 : ∀  (h : K192 () = some r) (H : Heap) (locs : List Loc) (hS : St D s H locs) (hF : Off (fun a => a = x0r0 ∨ a = x0r0r0 ∨ a = x0r0r1 ∨ a = x0r0r2) s.heap H) (h_x0 : OA D 1 x0 [.ref x0r0] H) (h_x0r0 : ON D 0 x0r0 [.ref x0r0r0, .ref x0r0r1, .ref x0r0r2, .int x0r0f3, .int o3.2.1, .int x0r0f5, .int x0r0f6] H) (h_x0r0r0 : aD D x0r0r0 8 x0r0r0c H) (h_x0r0r1 : aD D x0r0r1 8 o3.2.2 H) (h_x0r0r2 : aZ D x0r0r2 8 x0r0r2c H) (ls : Array Slot) (hl : lv_has ls 22 [(0, .ref x0), (1, .int x1), (2, .int x2), (3, .long o1.1), (5, .long o2.1), (7, .long o3.1)]), W p l e R_X0_areAnswers s m A below meth c H locs 474 5445 Q (F0 m 127 ls []) := by
    intro h H locs hS hF h_x0 h_x0r0 h_x0r0r0 h_x0r0r1 h_x0r0r2 ls hl
    subst eK192
    refine lv_iconst (v := 0) hx hb dX0_areAnswers_127 (by decide) ?_
    exact HK7 false h H locs hS hF h_x0 h_x0r0 h_x0r0r0 h_x0r0r1 h_x0r0r2 ls (lv_sub hl [0, 1, 2, 3, 4, 5] rfl)
  clear eK192
  refine lv_if_gt (tgt := 127) hx hb dX0_areAnswers_34 (by decide) (fun c193 => ?_) (fun c193 => ?_)
  · have h := it_pos h c193
    refine W.widen (k := 474) (n := 5445) (Nat.le_of_ble_eq_true rfl) (Nat.le_of_ble_eq_true rfl) ?_
    exact HK192  h H locs hS hF h_x0 h_x0r0 h_x0r0r0 h_x0r0r1 h_x0r0r2 ls (lv_sub hl [3, 4, 5, 2, 1, 0] rfl)
  · have h := it_neg h c193
    refine lv_lload hx hb dX0_areAnswers_37 (lv_at hl 1 rfl) ?_
    obtain ⟨o194, eo194, h⟩ := bind_step h
    refine r_cp (r_runS (rest := []) (As := [.long o2.1]) hC 1 (m_X0_size   o2.1 o194 eo194) q1522 q1523 q39 q1524 hd_X0_size rfl ⟨Nat.le_of_ble_eq_true rfl, Nat.le_of_ble_eq_true rfl⟩ hS trivial hl.1 rfl (Nat.le_of_ble_eq_true rfl) dX0_areAnswers_39 ⟨Nat.le_of_ble_eq_true rfl, Nat.le_of_ble_eq_true rfl⟩) ?_
    refine lv_ldc2 hx hb (v := 1073741824) hown (hts _ q1239) dX0_areAnswers_42 ?_
    obtain ⟨v195, ev195, h⟩ := lti_step h
    refine r_lcmp hx hb ev195 dX0_areAnswers_45 ?_
    refine lv_if_gt (tgt := 127) hx hb dX0_areAnswers_46 (by decide) (fun c196 => ?_) (fun c196 => ?_)
    · have h := it_pos h c196
      refine W.widen (k := 474) (n := 5445) (Nat.le_of_ble_eq_true rfl) (Nat.le_of_ble_eq_true rfl) ?_
      exact HK192  h H locs hS hF h_x0 h_x0r0 h_x0r0r0 h_x0r0r1 h_x0r0r2 ls (lv_sub hl [3, 4, 5, 2, 1, 0] rfl)
    · have h := it_neg h c196
      refine lv_lload hx hb dX0_areAnswers_49 (lv_at hl 0 rfl) ?_
      refine lv_ldc2 hx hb (v := (-9223372036854775808)) hown (hts _ q1238) dX0_areAnswers_51 ?_
      obtain ⟨v197, ev197, h⟩ := lti_step h
      refine r_lcmp hx hb ev197 dX0_areAnswers_54 ?_
      refine lv_if_le (tgt := 127) hx hb dX0_areAnswers_55 (by decide) (fun c198 => ?_) (fun c198 => ?_)
      · have h := it_pos h c198
        refine W.widen (k := 474) (n := 5445) (Nat.le_of_ble_eq_true rfl) (Nat.le_of_ble_eq_true rfl) ?_
        exact HK192  h H locs hS hF h_x0 h_x0r0 h_x0r0r0 h_x0r0r1 h_x0r0r2 ls (lv_sub hl [3, 4, 5, 2, 1, 0] rfl)
      · have h := it_neg h c198
        refine lv_lload_n hx hb dX0_areAnswers_58 rfl (lv_at hl 2 rfl) ?_
        refine lv_lload_n hx hb dX0_areAnswers_59 rfl (lv_at hl 2 rfl) ?_
        obtain ⟨v199, ev199, h⟩ := ltl_step h
        refine r_lmul hx hb ev199 dX0_areAnswers_60 ?_
        refine lv_lload hx hb dX0_areAnswers_61 (lv_at hl 1 rfl) ?_
        refine lv_lload hx hb dX0_areAnswers_63 (lv_at hl 1 rfl) ?_
        obtain ⟨v200, ev200, h⟩ := ltl_step h
        refine r_lmul hx hb ev200 dX0_areAnswers_65 ?_
        obtain ⟨v201, ev201, h⟩ := ltl_step h
        refine r_ladd hx hb ev201 dX0_areAnswers_66 ?_
        refine lv_ldc2 hx hb (v := 1152921504606846976) hown (hts _ q1544) dX0_areAnswers_67 ?_
        refine lv_ldc2 hx hb (v := 2) hown (hts _ q1518) dX0_areAnswers_70 ?_
        refine lv_lload_n hx hb dX0_areAnswers_73 rfl (lv_at hl 2 rfl) ?_
        obtain ⟨o202, eo202, h⟩ := bind_step h
        refine r_cp (r_runS (rest := [.long 2, .long 1152921504606846976, .long v201]) (As := [.long o1.1]) hC 1 (m_X0_size   o1.1 o202 eo202) q1522 q1523 q39 q1524 hd_X0_size rfl ⟨Nat.le_of_ble_eq_true rfl, Nat.le_of_ble_eq_true rfl⟩ hS trivial hl.1 rfl (Nat.le_of_ble_eq_true rfl) dX0_areAnswers_74 ⟨Nat.le_of_ble_eq_true rfl, Nat.le_of_ble_eq_true rfl⟩) ?_
        refine lv_lload hx hb dX0_areAnswers_77 (lv_at hl 1 rfl) ?_
        obtain ⟨o203, eo203, h⟩ := bind_step h
        refine r_cp (r_runS (rest := [.long o202, .long 2, .long 1152921504606846976, .long v201]) (As := [.long o2.1]) hC 1 (m_X0_size   o2.1 o203 eo203) q1522 q1523 q39 q1524 hd_X0_size rfl ⟨Nat.le_of_ble_eq_true rfl, Nat.le_of_ble_eq_true rfl⟩ hS trivial hl.1 rfl (Nat.le_of_ble_eq_true rfl) dX0_areAnswers_79 ⟨Nat.le_of_ble_eq_true rfl, Nat.le_of_ble_eq_true rfl⟩) ?_
        obtain ⟨v204, ev204, h⟩ := ltl_step h
        refine r_ladd hx hb ev204 dX0_areAnswers_82 ?_
        obtain ⟨v205, ev205, h⟩ := ltl_step h
        refine r_lmul hx hb ev205 dX0_areAnswers_83 ?_
        refine lv_ldc2 hx hb (v := 2) hown (hts _ q1518) dX0_areAnswers_84 ?_
        obtain ⟨v206, ev206, h⟩ := ltl_step h
        refine r_ladd hx hb ev206 dX0_areAnswers_87 ?_
        obtain ⟨o207, eo207, h⟩ := bind_step h
        refine r_cp (r_runS (rest := []) (As := [.long v201, .long 1152921504606846976, .long v206]) hC 3 (m_X0_isNear   v201 1152921504606846976 v206 o207 eo207) q1545 q1546 q39 q1547 hd_X0_isNear rfl ⟨Nat.le_of_ble_eq_true rfl, Nat.le_of_ble_eq_true rfl⟩ hS trivial hl.1 rfl (Nat.le_of_ble_eq_true rfl) dX0_areAnswers_88 ⟨Nat.le_of_ble_eq_true rfl, Nat.le_of_ble_eq_true rfl⟩) ?_
        refine r_ifz_eq (tgt := 127) hx hb dX0_areAnswers_91 (by decide) (fun c208 => ?_) (fun c208 => ?_)
        · have h := it_neg h (by rw [c208]; decide)
          refine W.widen (k := 474) (n := 5445) (Nat.le_of_ble_eq_true rfl) (Nat.le_of_ble_eq_true rfl) ?_
          exact HK192  h H locs hS hF h_x0 h_x0r0 h_x0r0r0 h_x0r0r1 h_x0r0r2 ls (lv_sub hl [3, 4, 5, 2, 1, 0] rfl)
        · have h := it_pos h (by rw [c208])
          refine lv_aload_n hx hb dX0_areAnswers_94 rfl (lv_at hl 3 rfl) ?_
          refine lv_iconst (v := 0) hx hb dX0_areAnswers_95 (by decide) ?_
          refine lv_lload_n hx hb dX0_areAnswers_96 rfl (lv_at hl 2 rfl) ?_
          obtain ⟨o209, eo209, h⟩ := bind_step h
          refine r_cz (r_runV (rest := []) (As := [.int 0, .long o1.1]) hC 2 (m_X0_areDigits x0 x0r0 x0r0r0 x0r0r1 x0r0r2  x0r0r0c o3.2.2 x0r0r2c x0r0f3 o3.2.1 x0r0f5 x0r0f6 0 o1.1 o209 eo209) q1548 q1550 qs31 q39 q1551 (OA.recv hS h_x0 (C := RX0) rfl) hd_X0_areDigits rfl ⟨Nat.le_of_ble_eq_true rfl, Nat.le_of_ble_eq_true rfl⟩ hS ⟨h_x0, h_x0r0, h_x0r0r0, h_x0r0r1, h_x0r0r2⟩ hl.1 rfl (Nat.le_of_ble_eq_true rfl) dX0_areAnswers_97 ⟨Nat.le_of_ble_eq_true rfl, Nat.le_of_ble_eq_true rfl⟩) hS (fun b H locs hp hS hz => ?_)
          obtain ⟨eb_, hO⟩ := hp
          rw [eb_]
          have h_x0 := h_x0.ext hO
          have h_x0r0 := h_x0r0.ext hO
          have h_x0r0r0 := h_x0r0r0.ext hO
          have h_x0r0r1 := h_x0r0r1.ext hO
          have h_x0r0r2 := h_x0r0r2.ext hO
          have hF := hF.trans (hO.mono (fun _ _ z => z.elim))
          refine r_ifz_eq (tgt := 127) hx hb dX0_areAnswers_100 (by decide) (fun c210 => ?_) (fun c210 => ?_)
          · have h := it_neg h (by rw [c210]; decide)
            refine W.widen (k := 474) (n := 5445) (Nat.le_of_ble_eq_true rfl) (Nat.le_of_ble_eq_true rfl) ?_
            exact HK192  h H locs hS hF h_x0 h_x0r0 h_x0r0r0 h_x0r0r1 h_x0r0r2 ls (lv_sub hl [3, 4, 5, 2, 1, 0] rfl)
          · have h := it_pos h (by rw [c210])
            refine lv_aload_n hx hb dX0_areAnswers_103 rfl (lv_at hl 3 rfl) ?_
            refine lv_iconst (v := 1) hx hb dX0_areAnswers_104 (by decide) ?_
            refine lv_lload hx hb dX0_areAnswers_105 (lv_at hl 1 rfl) ?_
            obtain ⟨o211, eo211, h⟩ := bind_step h
            refine r_cz (r_runV (rest := []) (As := [.int 1, .long o2.1]) hC 2 (m_X0_areDigits x0 x0r0 x0r0r0 x0r0r1 x0r0r2  x0r0r0c o3.2.2 x0r0r2c x0r0f3 o3.2.1 x0r0f5 x0r0f6 1 o2.1 o211 eo211) q1548 q1550 qs31 q39 q1551 (OA.recv hS h_x0 (C := RX0) rfl) hd_X0_areDigits rfl ⟨Nat.le_of_ble_eq_true rfl, Nat.le_of_ble_eq_true rfl⟩ hS ⟨h_x0, h_x0r0, h_x0r0r0, h_x0r0r1, h_x0r0r2⟩ hl.1 rfl (Nat.le_of_ble_eq_true rfl) dX0_areAnswers_107 ⟨Nat.le_of_ble_eq_true rfl, Nat.le_of_ble_eq_true rfl⟩) hS (fun b H locs hp hS hz => ?_)
            obtain ⟨eb_, hO⟩ := hp
            rw [eb_]
            have h_x0 := h_x0.ext hO
            have h_x0r0 := h_x0r0.ext hO
            have h_x0r0r0 := h_x0r0r0.ext hO
            have h_x0r0r1 := h_x0r0r1.ext hO
            have h_x0r0r2 := h_x0r0r2.ext hO
            have hF := hF.trans (hO.mono (fun _ _ z => z.elim))
            refine r_ifz_eq (tgt := 127) hx hb dX0_areAnswers_110 (by decide) (fun c212 => ?_) (fun c212 => ?_)
            · have h := it_neg h (by rw [c212]; decide)
              refine W.widen (k := 474) (n := 5445) (Nat.le_of_ble_eq_true rfl) (Nat.le_of_ble_eq_true rfl) ?_
              exact HK192  h H locs hS hF h_x0 h_x0r0 h_x0r0r0 h_x0r0r1 h_x0r0r2 ls (lv_sub hl [3, 4, 5, 2, 1, 0] rfl)
            · have h := it_pos h (by rw [c212])
              refine lv_aload_n hx hb dX0_areAnswers_113 rfl (lv_at hl 3 rfl) ?_
              refine lv_iconst (v := 2) hx hb dX0_areAnswers_114 (by decide) ?_
              refine lv_lload hx hb dX0_areAnswers_115 (lv_at hl 0 rfl) ?_
              obtain ⟨o213, eo213, h⟩ := bind_step h
              refine r_cz (r_runV (rest := []) (As := [.int 2, .long o3.1]) hC 2 (m_X0_areDigits x0 x0r0 x0r0r0 x0r0r1 x0r0r2  x0r0r0c o3.2.2 x0r0r2c x0r0f3 o3.2.1 x0r0f5 x0r0f6 2 o3.1 o213 eo213) q1548 q1550 qs31 q39 q1551 (OA.recv hS h_x0 (C := RX0) rfl) hd_X0_areDigits rfl ⟨Nat.le_of_ble_eq_true rfl, Nat.le_of_ble_eq_true rfl⟩ hS ⟨h_x0, h_x0r0, h_x0r0r0, h_x0r0r1, h_x0r0r2⟩ hl.1 rfl (Nat.le_of_ble_eq_true rfl) dX0_areAnswers_117 ⟨Nat.le_of_ble_eq_true rfl, Nat.le_of_ble_eq_true rfl⟩) hS (fun b H locs hp hS hz => ?_)
              obtain ⟨eb_, hO⟩ := hp
              rw [eb_]
              have h_x0 := h_x0.ext hO
              have h_x0r0 := h_x0r0.ext hO
              have h_x0r0r0 := h_x0r0r0.ext hO
              have h_x0r0r1 := h_x0r0r1.ext hO
              have h_x0r0r2 := h_x0r0r2.ext hO
              have hF := hF.trans (hO.mono (fun _ _ z => z.elim))
              refine r_ifz_eq (tgt := 127) hx hb dX0_areAnswers_120 (by decide) (fun c214 => ?_) (fun c214 => ?_)
              · have h := it_neg h (by rw [c214]; decide)
                exact HK192  h H locs hS hF h_x0 h_x0r0 h_x0r0r0 h_x0r0r1 h_x0r0r2 ls (lv_sub hl [3, 4, 5, 2, 1, 0] rfl)
              · have h := it_pos h (by rw [c214])
                refine lv_iconst (v := 1) hx hb dX0_areAnswers_123 (by decide) ?_
                refine lv_goto (tgt := 128) hx hb dX0_areAnswers_124 (by decide) ?_
                exact HK7 true h H locs hS hF h_x0 h_x0r0 h_x0r0r0 h_x0r0r1 h_x0r0r2 ls (lv_sub hl [3, 4, 5, 2, 1, 0] rfl)

abbrev R_X0_areSums : Room := { frames := 13, cells := 1319, slots := 14417, locals := 1524 }
noncomputable def f_X0_areSums (x0r0r0c : Nat → UInt64) (x0r0r1c : Nat → UInt64) (x0r0r2c : Nat → Int32) (x0r0f3 : Int32) (x0r0f4 : Int32) (x0r0f5 : Int32) (x0r0f6 : Int32) (x1 : Int32) (x2 : Int32) : Option (Bool × Int32 × Int32 × Int32 × (Nat → UInt64) × (Nat → UInt64) × (Nat → Int32)) :=
  Option.bind (f_X0_its x0r0r0c x0r0r1c x0r0r2c x0r0f3 x0r0f4 x0r0f5 x0r0f6 x1) fun o1 =>
  Option.bind (f_X0_its x0r0r0c x0r0r1c x0r0r2c x0r0f3 x0r0f4 x0r0f5 x0r0f6 x2) fun o2 =>
  ltl ((o1 + o2 : Int64)) fun v3 =>
  Option.bind (f_X0_isIn v3) fun o4 =>
  (if o4 = true then
    Option.bind (f_X1_angleSum x0r0r0c x0r0r1c x0r0r2c x0r0f3 x0r0f4 x0r0f5 x0r0f6 x1 x2 7) fun o6 =>
    (if o6.1 = (-9) then
      some (false, o6.2.1, x0r0f4, o6.2.2.1, o6.2.2.2.1, x0r0r1c, o6.2.2.2.2)
    else
      Option.bind (f_X0_its o6.2.2.2.1 x0r0r1c o6.2.2.2.2 o6.2.1 x0r0f4 o6.2.2.1 x0r0f6 7) fun o8 =>
      Option.bind (f_X0_its o6.2.2.2.1 x0r0r1c o6.2.2.2.2 o6.2.1 x0r0f4 o6.2.2.1 x0r0f6 x1) fun o9 =>
      Option.bind (f_X0_its o6.2.2.2.1 x0r0r1c o6.2.2.2.2 o6.2.1 x0r0f4 o6.2.2.1 x0r0f6 x2) fun o10 =>
      ltl ((o9 + o10 : Int64)) fun v11 =>
      lti (lg_cmp o8 v11) fun v12 =>
      (if v12 = 0 then
        Option.bind (f_X0_answer o6.2.2.2.1 x0r0r1c o6.2.2.2.2 o6.2.1 x0r0f4 o6.2.2.1 x0r0f6 0 x1 0) fun o14 =>
        Option.bind (f_X0_answer o6.2.2.2.1 o14.2.2 o6.2.2.2.2 o6.2.1 o14.2.1 o6.2.2.1 x0r0f6 1 x1 1) fun o15 =>
        Option.bind (f_X0_answer o6.2.2.2.1 o15.2.2 o6.2.2.2.2 o6.2.1 o15.2.1 o6.2.2.1 x0r0f6 0 x2 2) fun o16 =>
        Option.bind (f_X0_answer o6.2.2.2.1 o16.2.2 o6.2.2.2.2 o6.2.1 o16.2.1 o6.2.2.1 x0r0f6 1 x2 3) fun o17 =>
        Option.bind (f_X0_size o14.1) fun o18 =>
        Option.bind (f_X0_size o15.1) fun o19 =>
        ltl ((o18 + o19 : Int64)) fun v20 =>
        Option.bind (f_X0_size o16.1) fun o21 =>
        ltl ((v20 + o21 : Int64)) fun v22 =>
        Option.bind (f_X0_size o17.1) fun o23 =>
        ltl ((v22 + o23 : Int64)) fun v24 =>
        ltl ((v24 + 2 : Int64)) fun v25 =>
        ltl ((v25 + 1073741824 : Int64)) fun v26 =>
        ltl ((o14.1 * o17.1 : Int64)) fun v27 =>
        ltl ((o15.1 * o16.1 : Int64)) fun v28 =>
        ltl ((v27 + v28 : Int64)) fun v29 =>
        Option.bind (f_X0_answer o6.2.2.2.1 o17.2.2 o6.2.2.2.2 o6.2.1 o17.2.1 o6.2.2.1 x0r0f6 0 7 4) fun o30 =>
        ltl ((o30.1 * 1073741824 : Int64)) fun v31 =>
        Option.bind (f_X0_isNear v29 v31 v26) fun o32 =>
        lt (fun (f33 : Nat → UInt64) (v34 : Int32) (v35 : Bool) =>
        (if v35 = true then
          Option.bind (f_X1_order o6.2.2.2.1 f33 o6.2.2.2.2 o6.2.1 v34 o6.2.2.1 x0r0f6 0 x1 x2) fun o38 =>
          Option.bind (f_X1_heightOrder o6.2.2.2.1 f33 o6.2.2.2.2 o6.2.1 v34 o6.2.2.1 x0r0f6 0 2 0) fun o39 =>
          (if o38 = o39 then
            Option.bind (f_X1_order o6.2.2.2.1 f33 o6.2.2.2.2 o6.2.1 v34 o6.2.2.1 x0r0f6 1 x1 x2) fun o41 =>
            Option.bind (f_X1_heightOrder o6.2.2.2.1 f33 o6.2.2.2.2 o6.2.1 v34 o6.2.2.1 x0r0f6 1 3 1) fun o42 =>
            (if o41 = o42 then
              Option.bind (f_X1_isRound o6.2.2.2.1 f33 o6.2.2.2.2 o6.2.1 v34 o6.2.2.1 x0r0f6 7) fun o44 =>
              (if o44 = true then
                Option.bind (f_X1_isSlope o6.2.2.2.1 f33 o6.2.2.2.2 o6.2.1 v34 o6.2.2.1 x0r0f6 7) fun o46 =>
                (if o46 = true then
                  some (true, o6.2.1, v34, o6.2.2.1, o6.2.2.2.1, f33, o6.2.2.2.2)
                else
                  some (false, o6.2.1, v34, o6.2.2.1, o6.2.2.2.1, f33, o6.2.2.2.2)
                )
              else
                some (false, o6.2.1, v34, o6.2.2.1, o6.2.2.2.1, f33, o6.2.2.2.2)
              )
            else
              some (false, o6.2.1, v34, o6.2.2.1, o6.2.2.2.1, f33, o6.2.2.2.2)
            )
          else
            some (false, o6.2.1, v34, o6.2.2.1, o6.2.2.2.1, f33, o6.2.2.2.2)
          )
        else
          some (false, o6.2.1, v34, o6.2.2.1, o6.2.2.2.1, f33, o6.2.2.2.2)
        )
        ) fun K36 =>
        lt (fun (f48 : Nat → UInt64) (v49 : Int32) =>
        K36 f48 v49 false
        ) fun K50 =>
        (if o32 = true then
          ltl ((o15.1 * o17.1 : Int64)) fun v52 =>
          ltl ((o14.1 * o16.1 : Int64)) fun v53 =>
          ltl ((v52 - v53 : Int64)) fun v54 =>
          Option.bind (f_X0_answer o6.2.2.2.1 o30.2.2 o6.2.2.2.2 o6.2.1 o30.2.1 o6.2.2.1 x0r0f6 1 7 5) fun o55 =>
          ltl ((o55.1 * 1073741824 : Int64)) fun v56 =>
          Option.bind (f_X0_isNear v54 v56 v26) fun o57 =>
          (if o57 = true then
            K36 o55.2.2 o55.2.1 true
          else
            K50 o55.2.2 o55.2.1
          )
        else
          K50 o30.2.2 o30.2.1
        )
      else
        some (false, o6.2.1, x0r0f4, o6.2.2.1, o6.2.2.2.1, x0r0r1c, o6.2.2.2.2)
      )
    )
  else
    Option.bind (f_X1_angleSum x0r0r0c x0r0r1c x0r0r2c x0r0f3 x0r0f4 x0r0f5 x0r0f6 x1 x2 7) fun o59 =>
    (if o59.1 = (-9) then
      some (true, o59.2.1, x0r0f4, o59.2.2.1, o59.2.2.2.1, x0r0r1c, o59.2.2.2.2)
    else
      some (false, o59.2.1, x0r0f4, o59.2.2.1, o59.2.2.2.1, x0r0r1c, o59.2.2.2.2)
    )
  )
theorem hd_X0_areSums : Hd yX0_areSums 2 := by unfold Hd; decide +kernel
set_option maxHeartbeats 4000000 in
set_option maxRecDepth 100000 in
theorem m_X0_areSums {l : Launch} {D : DD} (x0 : Nat) (x0r0 : Nat) (x0r0r0 : Nat) (x0r0r1 : Nat) (x0r0r2 : Nat)  (x0r0r0c : Nat → UInt64) (x0r0r1c : Nat → UInt64) (x0r0r2c : Nat → Int32) (x0r0f3 : Int32) (x0r0f4 : Int32) (x0r0f5 : Int32) (x0r0f6 : Int32) (x1 : Int32) (x2 : Int32) (r : Bool × Int32 × Int32 × Int32 × (Nat → UInt64) × (Nat → UInt64) × (Nat → Int32)) (h : f_X0_areSums x0r0r0c x0r0r1c x0r0r2c x0r0f3 x0r0f4 x0r0f5 x0r0f6 x1 x2 = some r) : MT l D yX0_areSums cX0_areSums 14 (some .boolean) 13 1524 1319 14417 [.ref x0, .int x1, .int x2] (fun H => OA D 1 x0 [.ref x0r0] H ∧ ON D 0 x0r0 [.ref x0r0r0, .ref x0r0r1, .ref x0r0r2, .int x0r0f3, .int x0r0f4, .int x0r0f5, .int x0r0f6] H ∧ dB D ≤ x0r0 ∧ aD D x0r0r0 8 x0r0r0c H ∧ dB D ≤ x0r0r0 ∧ aD D x0r0r1 8 x0r0r1c H ∧ dB D ≤ x0r0r1 ∧ aZ D x0r0r2 8 x0r0r2c H ∧ dB D ≤ x0r0r2 ∧ x0 ≠ x0r0 ∧ x0 ≠ x0r0r0 ∧ x0 ≠ x0r0r1 ∧ x0 ≠ x0r0r2 ∧ x0r0 ≠ x0r0r0 ∧ x0r0 ≠ x0r0r1 ∧ x0r0 ≠ x0r0r2 ∧ x0r0r0 ≠ x0r0r1 ∧ x0r0r0 ≠ x0r0r2 ∧ x0r0r1 ≠ x0r0r2) (pZ (fun H b H' => b = r.1 ∧ ON D 0 x0r0 [.ref x0r0r0, .ref x0r0r1, .ref x0r0r2, .int r.2.1, .int r.2.2.1, .int r.2.2.2.1, .int x0r0f6] H' ∧ aD D x0r0r0 8 r.2.2.2.2.1 H' ∧ aD D x0r0r1 8 r.2.2.2.2.2.1 H' ∧ aZ D x0r0r2 8 r.2.2.2.2.2.2 H' ∧ Off (fun a => a = x0r0 ∨ a = x0r0r0 ∨ a = x0r0r1 ∨ a = x0r0r2) H H')) := by
  refine MT.start (by decide +kernel) (Nat.le_of_ble_eq_true rfl) ?_
  intro p e s m below meth c ls hC hS hp hl
  obtain ⟨h_x0, h_x0r0, hB_h_x0r0, h_x0r0r0, hB_h_x0r0r0, h_x0r0r1, hB_h_x0r0r1, h_x0r0r2, hB_h_x0r0r2, ne_x0_x0r0, ne_x0_x0r0r0, ne_x0_x0r0r1, ne_x0_x0r0r2, ne_x0r0_x0r0r0, ne_x0r0_x0r0r1, ne_x0r0_x0r0r2, ne_x0r0r0_x0r0r1, ne_x0r0r0_x0r0r2, ne_x0r0r1_x0r0r2⟩ := hp
  obtain ⟨hx, hb, hr, hlk, hml, hown, hts, hnm⟩ := id hC
  have hl : lv_has ls 14 [(0, .ref x0), (1, .int x1), (2, .int x2)] := hl
  unfold f_X0_areSums at h
  have hS0 := hS
  obtain ⟨A, eA⟩ : ∃ A : Array Value, A = [.ref x0, .int x1, .int x2].toArray := ⟨_, rfl⟩
  rw [← eA] at hC hts ⊢
  obtain ⟨Q, eQ⟩ : ∃ Q : State → Prop, Q = MQ below (TQ D (pZ (fun H b H' => b = r.1 ∧ ON D 0 x0r0 [.ref x0r0r0, .ref x0r0r1, .ref x0r0r2, .int r.2.1, .int r.2.2.1, .int r.2.2.2.1, .int x0r0f6] H' ∧ aD D x0r0r0 8 r.2.2.2.2.1 H' ∧ aD D x0r0r1 8 r.2.2.2.2.2.1 H' ∧ aZ D x0r0r2 8 r.2.2.2.2.2.2 H' ∧ Off (fun a => a = x0r0 ∨ a = x0r0r0 ∨ a = x0r0r1 ∨ a = x0r0r2) H H'))) A s 1319 14417 (fun q => dB D ≤ q) := ⟨_, rfl⟩
  have hF : Off (fun a => a = x0r0 ∨ a = x0r0r0 ∨ a = x0r0r1 ∨ a = x0r0r2) s.heap s.heap := Off.rf
  show W p l e R_X0_areSums s m A below meth c s.heap [] 0 0 _ _
  rw [← eQ]
  obtain ⟨H, eH⟩ : ∃ H : Heap, H = s.heap := ⟨_, rfl⟩
  obtain ⟨locs, eLc⟩ : ∃ L : List Loc, L = [] := ⟨_, rfl⟩
  have lt_h_x0 := h_x0.lt
  have lt_h_x0r0 := h_x0r0.lt
  have lt_h_x0r0r0 := h_x0r0r0.lt
  have lt_h_x0r0r1 := h_x0r0r1.lt
  have lt_h_x0r0r2 := h_x0r0r2.lt
  rw [← eH, ← eLc]
  have hF : Off (fun a => a = x0r0 ∨ a = x0r0r0 ∨ a = x0r0r1 ∨ a = x0r0r2) s.heap H := by rw [eH]; exact hF
  rw [← eH] at h_x0
  rw [← eH] at h_x0r0
  rw [← eH] at h_x0r0r0
  rw [← eH] at h_x0r0r1
  rw [← eH] at h_x0r0r2
  have hS : St D s H locs := by rw [eH, eLc]; exact hS
  refine lv_aload_n hx hb dX0_areSums_0 rfl (lv_at hl 0 rfl) ?_
  refine lv_iload_n hx hb dX0_areSums_1 rfl (lv_at hl 1 rfl) ?_
  obtain ⟨o1, eo1, h⟩ := bind_step h
  refine r_cl (r_runV (rest := []) (As := [.int x1]) hC 1 (m_X0_its x0 x0r0 x0r0r0 x0r0r1 x0r0r2  x0r0r0c x0r0r1c x0r0r2c x0r0f3 x0r0f4 x0r0f5 x0r0f6 x1 o1 eo1) q944 q946 qs10 q39 q947 (OA.recv hS h_x0 (C := RX0) rfl) hd_X0_its rfl ⟨Nat.le_of_ble_eq_true rfl, Nat.le_of_ble_eq_true rfl⟩ hS ⟨h_x0, h_x0r0, h_x0r0r0, h_x0r0r1, h_x0r0r2⟩ hl.1 rfl (Nat.le_of_ble_eq_true rfl) dX0_areSums_2 ⟨Nat.le_of_ble_eq_true rfl, Nat.le_of_ble_eq_true rfl⟩) hS (fun b H locs hp hS hz => ?_)
  obtain ⟨eb_, hO⟩ := hp
  rw [eb_]
  have h_x0 := h_x0.ext hO
  have h_x0r0 := h_x0r0.ext hO
  have h_x0r0r0 := h_x0r0r0.ext hO
  have h_x0r0r1 := h_x0r0r1.ext hO
  have h_x0r0r2 := h_x0r0r2.ext hO
  have hF := hF.trans (hO.mono (fun _ _ z => z.elim))
  refine lv_aload_n hx hb dX0_areSums_5 rfl (lv_at hl 0 rfl) ?_
  refine lv_iload_n hx hb dX0_areSums_6 rfl (lv_at hl 2 rfl) ?_
  obtain ⟨o2, eo2, h⟩ := bind_step h
  refine r_cl (r_runV (rest := [.long o1]) (As := [.int x2]) hC 1 (m_X0_its x0 x0r0 x0r0r0 x0r0r1 x0r0r2  x0r0r0c x0r0r1c x0r0r2c x0r0f3 x0r0f4 x0r0f5 x0r0f6 x2 o2 eo2) q944 q946 qs10 q39 q947 (OA.recv hS h_x0 (C := RX0) rfl) hd_X0_its rfl ⟨Nat.le_of_ble_eq_true rfl, Nat.le_of_ble_eq_true rfl⟩ hS ⟨h_x0, h_x0r0, h_x0r0r0, h_x0r0r1, h_x0r0r2⟩ hl.1 rfl (Nat.le_of_ble_eq_true rfl) dX0_areSums_7 ⟨Nat.le_of_ble_eq_true rfl, Nat.le_of_ble_eq_true rfl⟩) hS (fun b H locs hp hS hz => ?_)
  obtain ⟨eb_, hO⟩ := hp
  rw [eb_]
  have h_x0 := h_x0.ext hO
  have h_x0r0 := h_x0r0.ext hO
  have h_x0r0r0 := h_x0r0r0.ext hO
  have h_x0r0r1 := h_x0r0r1.ext hO
  have h_x0r0r2 := h_x0r0r2.ext hO
  have hF := hF.trans (hO.mono (fun _ _ z => z.elim))
  obtain ⟨v3, ev3, h⟩ := ltl_step h
  refine r_ladd hx hb ev3 dX0_areSums_10 ?_
  obtain ⟨o4, eo4, h⟩ := bind_step h
  refine r_cp (r_runS (rest := []) (As := [.long v3]) hC 1 (m_X0_isIn   v3 o4 eo4) q1519 q1520 q39 q1521 hd_X0_isIn rfl ⟨Nat.le_of_ble_eq_true rfl, Nat.le_of_ble_eq_true rfl⟩ hS trivial hl.1 rfl (Nat.le_of_ble_eq_true rfl) dX0_areSums_11 ⟨Nat.le_of_ble_eq_true rfl, Nat.le_of_ble_eq_true rfl⟩) ?_
  refine r_ifz_ne (tgt := 39) hx hb dX0_areSums_14 (by decide) (fun c5 => ?_) (fun c5 => ?_)
  · have h := it_pos h (by rw [c5])
    refine lv_aload_n hx hb dX0_areSums_39 rfl (lv_at hl 0 rfl) ?_
    refine r_get hx hb hts hown hS h_x0 rfl in_X0 0 (by decide) q936 rfl (v := .ref x0r0) rfl dX0_areSums_40 ?_
    refine lv_iload_n hx hb dX0_areSums_43 rfl (lv_at hl 1 rfl) ?_
    refine lv_iload_n hx hb dX0_areSums_44 rfl (lv_at hl 2 rfl) ?_
    refine lv_bipush (v := 7) hx hb dX0_areSums_45 (by decide) ?_
    obtain ⟨o6, eo6, h⟩ := bind_step h
    refine r_ci (r_runV (rest := []) (As := [.int x1, .int x2, .int 7]) hC 3 (m_X1_angleSum x0r0 x0r0r0 x0r0r1 x0r0r2  x0r0r0c x0r0r1c x0r0r2c x0r0f3 x0r0f4 x0r0f5 x0r0f6 x1 x2 7 o6 eo6) q1362 q1363 q1364 q46 q1365 (OA.recv hS h_x0r0.OA (C := RX1) rfl) hd_X1_angleSum rfl ⟨Nat.le_of_ble_eq_true rfl, Nat.le_of_ble_eq_true rfl⟩ hS ⟨h_x0r0, hB_h_x0r0, h_x0r0r0, hB_h_x0r0r0, h_x0r0r1, h_x0r0r2, hB_h_x0r0r2, ne_x0r0_x0r0r0, ne_x0r0_x0r0r1, ne_x0r0_x0r0r2, ne_x0r0r0_x0r0r1, ne_x0r0r0_x0r0r2, ne_x0r0r1_x0r0r2⟩ hl.1 rfl (Nat.le_of_ble_eq_true rfl) dX0_areSums_47 ⟨Nat.le_of_ble_eq_true rfl, Nat.le_of_ble_eq_true rfl⟩) hS (fun b H locs hp hS hz => ?_)
    obtain ⟨rfl, h_x0r0, h_x0r0r0, h_x0r0r2, hO⟩ := hp
    have h_x0 := h_x0.off hO (fun z => by rcases z with z | z | z <;> first | exact ne_x0_x0r0 z | exact ne_x0_x0r0r0 z | exact ne_x0_x0r0r2 z)
    have h_x0r0r1 := h_x0r0r1.off hO (fun z => by rcases z with z | z | z <;> first | exact (Ne.symm ne_x0r0_x0r0r1) z | exact (Ne.symm ne_x0r0r0_x0r0r1) z | exact ne_x0r0r1_x0r0r2 z)
    have hF := hF.fresh hO (fun a ha z => by
      rcases z with z | z | z
      · exact Or.inl z
      · exact Or.inr (Or.inl z)
      · exact Or.inr (Or.inr (Or.inr (z))))
    refine lv_bipush (v := (-9)) hx hb dX0_areSums_50 (by decide) ?_
    refine lv_icmp_eq (tgt := 76) hx hb dX0_areSums_52 (by decide) (fun c7 => ?_) (fun c7 => ?_)
    · have h := it_pos h c7
      refine lv_iconst (v := 0) hx hb dX0_areSums_76 (by decide) ?_
      obtain rfl := Option.some.inj h
      rw [eQ]
      exact r_zret hx hb hr hlk hS (by decide) (Nat.le_of_ble_eq_true rfl) (Nat.le_of_ble_eq_true rfl) dX0_areSums_77 ⟨_, rfl, rfl, h_x0r0, h_x0r0r0, h_x0r0r1, h_x0r0r2, hF⟩
    · have h := it_neg h c7
      refine lv_aload_n hx hb dX0_areSums_55 rfl (lv_at hl 0 rfl) ?_
      refine lv_bipush (v := 7) hx hb dX0_areSums_56 (by decide) ?_
      obtain ⟨o8, eo8, h⟩ := bind_step h
      refine r_cl (r_runV (rest := []) (As := [.int 7]) hC 1 (m_X0_its x0 x0r0 x0r0r0 x0r0r1 x0r0r2  o6.2.2.2.1 x0r0r1c o6.2.2.2.2 o6.2.1 x0r0f4 o6.2.2.1 x0r0f6 7 o8 eo8) q944 q946 qs10 q39 q947 (OA.recv hS h_x0 (C := RX0) rfl) hd_X0_its rfl ⟨Nat.le_of_ble_eq_true rfl, Nat.le_of_ble_eq_true rfl⟩ hS ⟨h_x0, h_x0r0, h_x0r0r0, h_x0r0r1, h_x0r0r2⟩ hl.1 rfl (Nat.le_of_ble_eq_true rfl) dX0_areSums_58 ⟨Nat.le_of_ble_eq_true rfl, Nat.le_of_ble_eq_true rfl⟩) hS (fun b H locs hp hS hz => ?_)
      obtain ⟨eb_, hO⟩ := hp
      rw [eb_]
      have h_x0 := h_x0.ext hO
      have h_x0r0 := h_x0r0.ext hO
      have h_x0r0r0 := h_x0r0r0.ext hO
      have h_x0r0r1 := h_x0r0r1.ext hO
      have h_x0r0r2 := h_x0r0r2.ext hO
      have hF := hF.trans (hO.mono (fun _ _ z => z.elim))
      refine lv_aload_n hx hb dX0_areSums_61 rfl (lv_at hl 0 rfl) ?_
      refine lv_iload_n hx hb dX0_areSums_62 rfl (lv_at hl 1 rfl) ?_
      obtain ⟨o9, eo9, h⟩ := bind_step h
      refine r_cl (r_runV (rest := [.long o8]) (As := [.int x1]) hC 1 (m_X0_its x0 x0r0 x0r0r0 x0r0r1 x0r0r2  o6.2.2.2.1 x0r0r1c o6.2.2.2.2 o6.2.1 x0r0f4 o6.2.2.1 x0r0f6 x1 o9 eo9) q944 q946 qs10 q39 q947 (OA.recv hS h_x0 (C := RX0) rfl) hd_X0_its rfl ⟨Nat.le_of_ble_eq_true rfl, Nat.le_of_ble_eq_true rfl⟩ hS ⟨h_x0, h_x0r0, h_x0r0r0, h_x0r0r1, h_x0r0r2⟩ hl.1 rfl (Nat.le_of_ble_eq_true rfl) dX0_areSums_63 ⟨Nat.le_of_ble_eq_true rfl, Nat.le_of_ble_eq_true rfl⟩) hS (fun b H locs hp hS hz => ?_)
      obtain ⟨eb_, hO⟩ := hp
      rw [eb_]
      have h_x0 := h_x0.ext hO
      have h_x0r0 := h_x0r0.ext hO
      have h_x0r0r0 := h_x0r0r0.ext hO
      have h_x0r0r1 := h_x0r0r1.ext hO
      have h_x0r0r2 := h_x0r0r2.ext hO
      have hF := hF.trans (hO.mono (fun _ _ z => z.elim))
      refine lv_aload_n hx hb dX0_areSums_66 rfl (lv_at hl 0 rfl) ?_
      refine lv_iload_n hx hb dX0_areSums_67 rfl (lv_at hl 2 rfl) ?_
      obtain ⟨o10, eo10, h⟩ := bind_step h
      refine r_cl (r_runV (rest := [.long o9, .long o8]) (As := [.int x2]) hC 1 (m_X0_its x0 x0r0 x0r0r0 x0r0r1 x0r0r2  o6.2.2.2.1 x0r0r1c o6.2.2.2.2 o6.2.1 x0r0f4 o6.2.2.1 x0r0f6 x2 o10 eo10) q944 q946 qs10 q39 q947 (OA.recv hS h_x0 (C := RX0) rfl) hd_X0_its rfl ⟨Nat.le_of_ble_eq_true rfl, Nat.le_of_ble_eq_true rfl⟩ hS ⟨h_x0, h_x0r0, h_x0r0r0, h_x0r0r1, h_x0r0r2⟩ hl.1 rfl (Nat.le_of_ble_eq_true rfl) dX0_areSums_68 ⟨Nat.le_of_ble_eq_true rfl, Nat.le_of_ble_eq_true rfl⟩) hS (fun b H locs hp hS hz => ?_)
      obtain ⟨eb_, hO⟩ := hp
      rw [eb_]
      have h_x0 := h_x0.ext hO
      have h_x0r0 := h_x0r0.ext hO
      have h_x0r0r0 := h_x0r0r0.ext hO
      have h_x0r0r1 := h_x0r0r1.ext hO
      have h_x0r0r2 := h_x0r0r2.ext hO
      have hF := hF.trans (hO.mono (fun _ _ z => z.elim))
      obtain ⟨v11, ev11, h⟩ := ltl_step h
      refine r_ladd hx hb ev11 dX0_areSums_71 ?_
      obtain ⟨v12, ev12, h⟩ := lti_step h
      refine r_lcmp hx hb ev12 dX0_areSums_72 ?_
      refine lv_if_eq (tgt := 78) hx hb dX0_areSums_73 (by decide) (fun c13 => ?_) (fun c13 => ?_)
      · have h := it_pos h c13
        refine lv_aload_n hx hb dX0_areSums_78 rfl (lv_at hl 0 rfl) ?_
        refine lv_iconst (v := 0) hx hb dX0_areSums_79 (by decide) ?_
        refine lv_iload_n hx hb dX0_areSums_80 rfl (lv_at hl 1 rfl) ?_
        refine lv_iconst (v := 0) hx hb dX0_areSums_81 (by decide) ?_
        obtain ⟨o14, eo14, h⟩ := bind_step h
        refine r_cl (r_runV (rest := []) (As := [.int 0, .int x1, .int 0]) hC 3 (m_X0_answer x0 x0r0 x0r0r0 x0r0r1 x0r0r2  o6.2.2.2.1 x0r0r1c o6.2.2.2.2 o6.2.1 x0r0f4 o6.2.2.1 x0r0f6 0 x1 0 o14 eo14) q1415 q1417 qs27 q39 q1418 (OA.recv hS h_x0 (C := RX0) rfl) hd_X0_answer rfl ⟨Nat.le_of_ble_eq_true rfl, Nat.le_of_ble_eq_true rfl⟩ hS ⟨h_x0, h_x0r0, hB_h_x0r0, h_x0r0r0, h_x0r0r1, hB_h_x0r0r1, h_x0r0r2, ne_x0_x0r0, ne_x0_x0r0r1, ne_x0r0_x0r0r0, ne_x0r0_x0r0r1, ne_x0r0_x0r0r2, ne_x0r0r0_x0r0r1, ne_x0r0r1_x0r0r2⟩ hl.1 rfl (Nat.le_of_ble_eq_true rfl) dX0_areSums_82 ⟨Nat.le_of_ble_eq_true rfl, Nat.le_of_ble_eq_true rfl⟩) hS (fun b H locs hp hS hz => ?_)
        obtain ⟨rfl, h_x0r0, h_x0r0r1, hO⟩ := hp
        have h_x0 := h_x0.off hO (fun z => by rcases z with z | z <;> first | exact ne_x0_x0r0 z | exact ne_x0_x0r0r1 z)
        have h_x0r0r0 := h_x0r0r0.off hO (fun z => by rcases z with z | z <;> first | exact (Ne.symm ne_x0r0_x0r0r0) z | exact ne_x0r0r0_x0r0r1 z)
        have h_x0r0r2 := h_x0r0r2.off hO (fun z => by rcases z with z | z <;> first | exact (Ne.symm ne_x0r0_x0r0r2) z | exact (Ne.symm ne_x0r0r1_x0r0r2) z)
        have hF := hF.fresh hO (fun a ha z => by
          rcases z with z | z
          · exact Or.inl z
          · exact Or.inr (Or.inr (Or.inl z)))
        refine lv_lstore_n (lv' := [(3, .long o14.1), (0, .ref x0), (1, .int x1), (2, .int x2)]) hx hb dX0_areSums_85 rfl hl (by decide) rfl (fun ls hl => ?_)
        refine lv_aload_n hx hb dX0_areSums_86 rfl (lv_at hl 1 rfl) ?_
        refine lv_iconst (v := 1) hx hb dX0_areSums_87 (by decide) ?_
        refine lv_iload_n hx hb dX0_areSums_88 rfl (lv_at hl 2 rfl) ?_
        refine lv_iconst (v := 1) hx hb dX0_areSums_89 (by decide) ?_
        obtain ⟨o15, eo15, h⟩ := bind_step h
        refine r_cl (r_runV (rest := []) (As := [.int 1, .int x1, .int 1]) hC 3 (m_X0_answer x0 x0r0 x0r0r0 x0r0r1 x0r0r2  o6.2.2.2.1 o14.2.2 o6.2.2.2.2 o6.2.1 o14.2.1 o6.2.2.1 x0r0f6 1 x1 1 o15 eo15) q1415 q1417 qs27 q39 q1418 (OA.recv hS h_x0 (C := RX0) rfl) hd_X0_answer rfl ⟨Nat.le_of_ble_eq_true rfl, Nat.le_of_ble_eq_true rfl⟩ hS ⟨h_x0, h_x0r0, hB_h_x0r0, h_x0r0r0, h_x0r0r1, hB_h_x0r0r1, h_x0r0r2, ne_x0_x0r0, ne_x0_x0r0r1, ne_x0r0_x0r0r0, ne_x0r0_x0r0r1, ne_x0r0_x0r0r2, ne_x0r0r0_x0r0r1, ne_x0r0r1_x0r0r2⟩ hl.1 rfl (Nat.le_of_ble_eq_true rfl) dX0_areSums_90 ⟨Nat.le_of_ble_eq_true rfl, Nat.le_of_ble_eq_true rfl⟩) hS (fun b H locs hp hS hz => ?_)
        obtain ⟨rfl, h_x0r0, h_x0r0r1, hO⟩ := hp
        have h_x0 := h_x0.off hO (fun z => by rcases z with z | z <;> first | exact ne_x0_x0r0 z | exact ne_x0_x0r0r1 z)
        have h_x0r0r0 := h_x0r0r0.off hO (fun z => by rcases z with z | z <;> first | exact (Ne.symm ne_x0r0_x0r0r0) z | exact ne_x0r0r0_x0r0r1 z)
        have h_x0r0r2 := h_x0r0r2.off hO (fun z => by rcases z with z | z <;> first | exact (Ne.symm ne_x0r0_x0r0r2) z | exact (Ne.symm ne_x0r0r1_x0r0r2) z)
        have hF := hF.fresh hO (fun a ha z => by
          rcases z with z | z
          · exact Or.inl z
          · exact Or.inr (Or.inr (Or.inl z)))
        refine lv_lstore (lv' := [(5, .long o15.1), (3, .long o14.1), (0, .ref x0), (1, .int x1), (2, .int x2)]) hx hb dX0_areSums_93 hl (by decide) rfl (fun ls hl => ?_)
        refine lv_aload_n hx hb dX0_areSums_95 rfl (lv_at hl 2 rfl) ?_
        refine lv_iconst (v := 0) hx hb dX0_areSums_96 (by decide) ?_
        refine lv_iload_n hx hb dX0_areSums_97 rfl (lv_at hl 4 rfl) ?_
        refine lv_iconst (v := 2) hx hb dX0_areSums_98 (by decide) ?_
        obtain ⟨o16, eo16, h⟩ := bind_step h
        refine r_cl (r_runV (rest := []) (As := [.int 0, .int x2, .int 2]) hC 3 (m_X0_answer x0 x0r0 x0r0r0 x0r0r1 x0r0r2  o6.2.2.2.1 o15.2.2 o6.2.2.2.2 o6.2.1 o15.2.1 o6.2.2.1 x0r0f6 0 x2 2 o16 eo16) q1415 q1417 qs27 q39 q1418 (OA.recv hS h_x0 (C := RX0) rfl) hd_X0_answer rfl ⟨Nat.le_of_ble_eq_true rfl, Nat.le_of_ble_eq_true rfl⟩ hS ⟨h_x0, h_x0r0, hB_h_x0r0, h_x0r0r0, h_x0r0r1, hB_h_x0r0r1, h_x0r0r2, ne_x0_x0r0, ne_x0_x0r0r1, ne_x0r0_x0r0r0, ne_x0r0_x0r0r1, ne_x0r0_x0r0r2, ne_x0r0r0_x0r0r1, ne_x0r0r1_x0r0r2⟩ hl.1 rfl (Nat.le_of_ble_eq_true rfl) dX0_areSums_99 ⟨Nat.le_of_ble_eq_true rfl, Nat.le_of_ble_eq_true rfl⟩) hS (fun b H locs hp hS hz => ?_)
        obtain ⟨rfl, h_x0r0, h_x0r0r1, hO⟩ := hp
        have h_x0 := h_x0.off hO (fun z => by rcases z with z | z <;> first | exact ne_x0_x0r0 z | exact ne_x0_x0r0r1 z)
        have h_x0r0r0 := h_x0r0r0.off hO (fun z => by rcases z with z | z <;> first | exact (Ne.symm ne_x0r0_x0r0r0) z | exact ne_x0r0r0_x0r0r1 z)
        have h_x0r0r2 := h_x0r0r2.off hO (fun z => by rcases z with z | z <;> first | exact (Ne.symm ne_x0r0_x0r0r2) z | exact (Ne.symm ne_x0r0r1_x0r0r2) z)
        have hF := hF.fresh hO (fun a ha z => by
          rcases z with z | z
          · exact Or.inl z
          · exact Or.inr (Or.inr (Or.inl z)))
        refine lv_lstore (lv' := [(7, .long o16.1), (5, .long o15.1), (3, .long o14.1), (0, .ref x0), (1, .int x1), (2, .int x2)]) hx hb dX0_areSums_102 hl (by decide) rfl (fun ls hl => ?_)
        refine lv_aload_n hx hb dX0_areSums_104 rfl (lv_at hl 3 rfl) ?_
        refine lv_iconst (v := 1) hx hb dX0_areSums_105 (by decide) ?_
        refine lv_iload_n hx hb dX0_areSums_106 rfl (lv_at hl 5 rfl) ?_
        refine lv_iconst (v := 3) hx hb dX0_areSums_107 (by decide) ?_
        obtain ⟨o17, eo17, h⟩ := bind_step h
        refine r_cl (r_runV (rest := []) (As := [.int 1, .int x2, .int 3]) hC 3 (m_X0_answer x0 x0r0 x0r0r0 x0r0r1 x0r0r2  o6.2.2.2.1 o16.2.2 o6.2.2.2.2 o6.2.1 o16.2.1 o6.2.2.1 x0r0f6 1 x2 3 o17 eo17) q1415 q1417 qs27 q39 q1418 (OA.recv hS h_x0 (C := RX0) rfl) hd_X0_answer rfl ⟨Nat.le_of_ble_eq_true rfl, Nat.le_of_ble_eq_true rfl⟩ hS ⟨h_x0, h_x0r0, hB_h_x0r0, h_x0r0r0, h_x0r0r1, hB_h_x0r0r1, h_x0r0r2, ne_x0_x0r0, ne_x0_x0r0r1, ne_x0r0_x0r0r0, ne_x0r0_x0r0r1, ne_x0r0_x0r0r2, ne_x0r0r0_x0r0r1, ne_x0r0r1_x0r0r2⟩ hl.1 rfl (Nat.le_of_ble_eq_true rfl) dX0_areSums_108 ⟨Nat.le_of_ble_eq_true rfl, Nat.le_of_ble_eq_true rfl⟩) hS (fun b H locs hp hS hz => ?_)
        obtain ⟨rfl, h_x0r0, h_x0r0r1, hO⟩ := hp
        have h_x0 := h_x0.off hO (fun z => by rcases z with z | z <;> first | exact ne_x0_x0r0 z | exact ne_x0_x0r0r1 z)
        have h_x0r0r0 := h_x0r0r0.off hO (fun z => by rcases z with z | z <;> first | exact (Ne.symm ne_x0r0_x0r0r0) z | exact ne_x0r0r0_x0r0r1 z)
        have h_x0r0r2 := h_x0r0r2.off hO (fun z => by rcases z with z | z <;> first | exact (Ne.symm ne_x0r0_x0r0r2) z | exact (Ne.symm ne_x0r0r1_x0r0r2) z)
        have hF := hF.fresh hO (fun a ha z => by
          rcases z with z | z
          · exact Or.inl z
          · exact Or.inr (Or.inr (Or.inl z)))
        refine lv_lstore (lv' := [(9, .long o17.1), (7, .long o16.1), (5, .long o15.1), (3, .long o14.1), (0, .ref x0), (1, .int x1), (2, .int x2)]) hx hb dX0_areSums_111 hl (by decide) rfl (fun ls hl => ?_)
        refine lv_lload_n hx hb dX0_areSums_113 rfl (lv_at hl 3 rfl) ?_
        obtain ⟨o18, eo18, h⟩ := bind_step h
        refine r_cp (r_runS (rest := []) (As := [.long o14.1]) hC 1 (m_X0_size   o14.1 o18 eo18) q1522 q1523 q39 q1524 hd_X0_size rfl ⟨Nat.le_of_ble_eq_true rfl, Nat.le_of_ble_eq_true rfl⟩ hS trivial hl.1 rfl (Nat.le_of_ble_eq_true rfl) dX0_areSums_114 ⟨Nat.le_of_ble_eq_true rfl, Nat.le_of_ble_eq_true rfl⟩) ?_
        refine lv_lload hx hb dX0_areSums_117 (lv_at hl 2 rfl) ?_
        obtain ⟨o19, eo19, h⟩ := bind_step h
        refine r_cp (r_runS (rest := [.long o18]) (As := [.long o15.1]) hC 1 (m_X0_size   o15.1 o19 eo19) q1522 q1523 q39 q1524 hd_X0_size rfl ⟨Nat.le_of_ble_eq_true rfl, Nat.le_of_ble_eq_true rfl⟩ hS trivial hl.1 rfl (Nat.le_of_ble_eq_true rfl) dX0_areSums_119 ⟨Nat.le_of_ble_eq_true rfl, Nat.le_of_ble_eq_true rfl⟩) ?_
        obtain ⟨v20, ev20, h⟩ := ltl_step h
        refine r_ladd hx hb ev20 dX0_areSums_122 ?_
        refine lv_lload hx hb dX0_areSums_123 (lv_at hl 1 rfl) ?_
        obtain ⟨o21, eo21, h⟩ := bind_step h
        refine r_cp (r_runS (rest := [.long v20]) (As := [.long o16.1]) hC 1 (m_X0_size   o16.1 o21 eo21) q1522 q1523 q39 q1524 hd_X0_size rfl ⟨Nat.le_of_ble_eq_true rfl, Nat.le_of_ble_eq_true rfl⟩ hS trivial hl.1 rfl (Nat.le_of_ble_eq_true rfl) dX0_areSums_125 ⟨Nat.le_of_ble_eq_true rfl, Nat.le_of_ble_eq_true rfl⟩) ?_
        obtain ⟨v22, ev22, h⟩ := ltl_step h
        refine r_ladd hx hb ev22 dX0_areSums_128 ?_
        refine lv_lload hx hb dX0_areSums_129 (lv_at hl 0 rfl) ?_
        obtain ⟨o23, eo23, h⟩ := bind_step h
        refine r_cp (r_runS (rest := [.long v22]) (As := [.long o17.1]) hC 1 (m_X0_size   o17.1 o23 eo23) q1522 q1523 q39 q1524 hd_X0_size rfl ⟨Nat.le_of_ble_eq_true rfl, Nat.le_of_ble_eq_true rfl⟩ hS trivial hl.1 rfl (Nat.le_of_ble_eq_true rfl) dX0_areSums_131 ⟨Nat.le_of_ble_eq_true rfl, Nat.le_of_ble_eq_true rfl⟩) ?_
        obtain ⟨v24, ev24, h⟩ := ltl_step h
        refine r_ladd hx hb ev24 dX0_areSums_134 ?_
        refine lv_ldc2 hx hb (v := 2) hown (hts _ q1518) dX0_areSums_135 ?_
        obtain ⟨v25, ev25, h⟩ := ltl_step h
        refine r_ladd hx hb ev25 dX0_areSums_138 ?_
        refine lv_ldc2 hx hb (v := 1073741824) hown (hts _ q1239) dX0_areSums_139 ?_
        obtain ⟨v26, ev26, h⟩ := ltl_step h
        refine r_ladd hx hb ev26 dX0_areSums_142 ?_
        refine lv_lstore (lv' := [(11, .long v26), (9, .long o17.1), (7, .long o16.1), (5, .long o15.1), (3, .long o14.1), (0, .ref x0), (1, .int x1), (2, .int x2)]) hx hb dX0_areSums_143 hl (by decide) rfl (fun ls hl => ?_)
        refine lv_lload_n hx hb dX0_areSums_145 rfl (lv_at hl 4 rfl) ?_
        refine lv_lload hx hb dX0_areSums_146 (lv_at hl 1 rfl) ?_
        obtain ⟨v27, ev27, h⟩ := ltl_step h
        refine r_lmul hx hb ev27 dX0_areSums_148 ?_
        refine lv_lload hx hb dX0_areSums_149 (lv_at hl 3 rfl) ?_
        refine lv_lload hx hb dX0_areSums_151 (lv_at hl 2 rfl) ?_
        obtain ⟨v28, ev28, h⟩ := ltl_step h
        refine r_lmul hx hb ev28 dX0_areSums_153 ?_
        obtain ⟨v29, ev29, h⟩ := ltl_step h
        refine r_ladd hx hb ev29 dX0_areSums_154 ?_
        refine lv_aload_n hx hb dX0_areSums_155 rfl (lv_at hl 5 rfl) ?_
        refine lv_iconst (v := 0) hx hb dX0_areSums_156 (by decide) ?_
        refine lv_bipush (v := 7) hx hb dX0_areSums_157 (by decide) ?_
        refine lv_iconst (v := 4) hx hb dX0_areSums_159 (by decide) ?_
        obtain ⟨o30, eo30, h⟩ := bind_step h
        refine r_cl (r_runV (rest := [.long v29]) (As := [.int 0, .int 7, .int 4]) hC 3 (m_X0_answer x0 x0r0 x0r0r0 x0r0r1 x0r0r2  o6.2.2.2.1 o17.2.2 o6.2.2.2.2 o6.2.1 o17.2.1 o6.2.2.1 x0r0f6 0 7 4 o30 eo30) q1415 q1417 qs27 q39 q1418 (OA.recv hS h_x0 (C := RX0) rfl) hd_X0_answer rfl ⟨Nat.le_of_ble_eq_true rfl, Nat.le_of_ble_eq_true rfl⟩ hS ⟨h_x0, h_x0r0, hB_h_x0r0, h_x0r0r0, h_x0r0r1, hB_h_x0r0r1, h_x0r0r2, ne_x0_x0r0, ne_x0_x0r0r1, ne_x0r0_x0r0r0, ne_x0r0_x0r0r1, ne_x0r0_x0r0r2, ne_x0r0r0_x0r0r1, ne_x0r0r1_x0r0r2⟩ hl.1 rfl (Nat.le_of_ble_eq_true rfl) dX0_areSums_160 ⟨Nat.le_of_ble_eq_true rfl, Nat.le_of_ble_eq_true rfl⟩) hS (fun b H locs hp hS hz => ?_)
        obtain ⟨rfl, h_x0r0, h_x0r0r1, hO⟩ := hp
        have h_x0 := h_x0.off hO (fun z => by rcases z with z | z <;> first | exact ne_x0_x0r0 z | exact ne_x0_x0r0r1 z)
        have h_x0r0r0 := h_x0r0r0.off hO (fun z => by rcases z with z | z <;> first | exact (Ne.symm ne_x0r0_x0r0r0) z | exact ne_x0r0r0_x0r0r1 z)
        have h_x0r0r2 := h_x0r0r2.off hO (fun z => by rcases z with z | z <;> first | exact (Ne.symm ne_x0r0_x0r0r2) z | exact (Ne.symm ne_x0r0r1_x0r0r2) z)
        have hF := hF.fresh hO (fun a ha z => by
          rcases z with z | z
          · exact Or.inl z
          · exact Or.inr (Or.inr (Or.inl z)))
        refine lv_ldc2 hx hb (v := 1073741824) hown (hts _ q1239) dX0_areSums_163 ?_
        obtain ⟨v31, ev31, h⟩ := ltl_step h
        refine r_lmul hx hb ev31 dX0_areSums_166 ?_
        refine lv_lload hx hb dX0_areSums_167 (lv_at hl 0 rfl) ?_
        obtain ⟨o32, eo32, h⟩ := bind_step h
        refine r_cp (r_runS (rest := []) (As := [.long v29, .long v31, .long v26]) hC 3 (m_X0_isNear   v29 v31 v26 o32 eo32) q1545 q1546 q39 q1547 hd_X0_isNear rfl ⟨Nat.le_of_ble_eq_true rfl, Nat.le_of_ble_eq_true rfl⟩ hS trivial hl.1 rfl (Nat.le_of_ble_eq_true rfl) dX0_areSums_169 ⟨Nat.le_of_ble_eq_true rfl, Nat.le_of_ble_eq_true rfl⟩) ?_
        obtain ⟨K36, eK36, h⟩ := lt_step h
        have HK36 : ∀ (f33 : Nat → UInt64) (v34 : Int32) (v35 : Bool) (h : K36 f33 v34 v35 = some r) (H : Heap) (locs : List Loc) (hS : St D s H locs) (hF : Off (fun a => a = x0r0 ∨ a = x0r0r0 ∨ a = x0r0r1 ∨ a = x0r0r2) s.heap H) (h_x0 : OA D 1 x0 [.ref x0r0] H) (h_x0r0 : ON D 0 x0r0 [.ref x0r0r0, .ref x0r0r1, .ref x0r0r2, .int o6.2.1, .int v34, .int o6.2.2.1, .int x0r0f6] H) (h_x0r0r0 : aD D x0r0r0 8 o6.2.2.2.1 H) (h_x0r0r1 : aD D x0r0r1 8 f33 H) (h_x0r0r2 : aZ D x0r0r2 8 o6.2.2.2.2 H) (ls : Array Slot) (hl : lv_has ls 14 [(0, .ref x0), (1, .int x1), (2, .int x2)]), W p l e R_X0_areSums s m A below meth c H locs 1205 13244 Q (F0 m 210 ls [.int (bI v35)]) := by
          intro f33 v34 v35 h H locs hS hF h_x0 h_x0r0 h_x0r0r0 h_x0r0r1 h_x0r0r2 ls hl
          subst eK36
          refine lv_istore (lv' := [(13, .int (bI v35)), (0, .ref x0), (1, .int x1), (2, .int x2)]) hx hb dX0_areSums_210 hl (by decide) rfl (fun ls hl => ?_)
          refine lv_iload hx hb dX0_areSums_212 (lv_at hl 0 rfl) ?_
          refine r_ifz_eq (tgt := 291) hx hb dX0_areSums_214 (by decide) (fun c37 => ?_) (fun c37 => ?_)
          · have h := it_neg h (by rw [c37]; decide)
            refine lv_iconst (v := 0) hx hb dX0_areSums_291 (by decide) ?_
            obtain rfl := Option.some.inj h
            rw [eQ]
            exact r_zret hx hb hr hlk hS (by decide) (Nat.le_of_ble_eq_true rfl) (Nat.le_of_ble_eq_true rfl) dX0_areSums_292 ⟨_, rfl, rfl, h_x0r0, h_x0r0r0, h_x0r0r1, h_x0r0r2, hF⟩
          · have h := it_pos h (by rw [c37])
            refine lv_aload_n hx hb dX0_areSums_217 rfl (lv_at hl 1 rfl) ?_
            refine r_get hx hb hts hown hS h_x0 rfl in_X0 0 (by decide) q936 rfl (v := .ref x0r0) rfl dX0_areSums_218 ?_
            refine lv_iconst (v := 0) hx hb dX0_areSums_221 (by decide) ?_
            refine lv_iload_n hx hb dX0_areSums_222 rfl (lv_at hl 2 rfl) ?_
            refine lv_iload_n hx hb dX0_areSums_223 rfl (lv_at hl 3 rfl) ?_
            obtain ⟨o38, eo38, h⟩ := bind_step h
            refine r_ci (r_runV (rest := []) (As := [.int 0, .int x1, .int x2]) hC 3 (m_X1_order x0r0 x0r0r0 x0r0r1 x0r0r2  o6.2.2.2.1 f33 o6.2.2.2.2 o6.2.1 v34 o6.2.2.1 x0r0f6 0 x1 x2 o38 eo38) q1576 q1577 q1578 q46 q1579 (OA.recv hS h_x0r0.OA (C := RX1) rfl) hd_X1_order rfl ⟨Nat.le_of_ble_eq_true rfl, Nat.le_of_ble_eq_true rfl⟩ hS ⟨h_x0r0, h_x0r0r0, h_x0r0r1, h_x0r0r2⟩ hl.1 rfl (Nat.le_of_ble_eq_true rfl) dX0_areSums_224 ⟨Nat.le_of_ble_eq_true rfl, Nat.le_of_ble_eq_true rfl⟩) hS (fun b H locs hp hS hz => ?_)
            obtain ⟨eb_, hO⟩ := hp
            rw [eb_]
            have h_x0 := h_x0.ext hO
            have h_x0r0 := h_x0r0.ext hO
            have h_x0r0r0 := h_x0r0r0.ext hO
            have h_x0r0r1 := h_x0r0r1.ext hO
            have h_x0r0r2 := h_x0r0r2.ext hO
            have hF := hF.trans (hO.mono (fun _ _ z => z.elim))
            refine lv_aload_n hx hb dX0_areSums_227 rfl (lv_at hl 1 rfl) ?_
            refine r_get hx hb hts hown hS h_x0 rfl in_X0 0 (by decide) q936 rfl (v := .ref x0r0) rfl dX0_areSums_228 ?_
            refine lv_iconst (v := 0) hx hb dX0_areSums_231 (by decide) ?_
            refine lv_iconst (v := 2) hx hb dX0_areSums_232 (by decide) ?_
            refine lv_iconst (v := 0) hx hb dX0_areSums_233 (by decide) ?_
            obtain ⟨o39, eo39, h⟩ := bind_step h
            refine r_ci (r_runV (rest := [.int o38]) (As := [.int 0, .int 2, .int 0]) hC 3 (m_X1_heightOrder x0r0 x0r0r0 x0r0r1 x0r0r2  o6.2.2.2.1 f33 o6.2.2.2.2 o6.2.1 v34 o6.2.2.1 x0r0f6 0 2 0 o39 eo39) q1604 q1288 q1289 q46 q1290 (OA.recv hS h_x0r0.OA (C := RX1) rfl) hd_X1_heightOrder rfl ⟨Nat.le_of_ble_eq_true rfl, Nat.le_of_ble_eq_true rfl⟩ hS ⟨h_x0r0, h_x0r0r0, h_x0r0r1, h_x0r0r2⟩ hl.1 rfl (Nat.le_of_ble_eq_true rfl) dX0_areSums_234 ⟨Nat.le_of_ble_eq_true rfl, Nat.le_of_ble_eq_true rfl⟩) hS (fun b H locs hp hS hz => ?_)
            obtain ⟨eb_, hO⟩ := hp
            rw [eb_]
            have h_x0 := h_x0.ext hO
            have h_x0r0 := h_x0r0.ext hO
            have h_x0r0r0 := h_x0r0r0.ext hO
            have h_x0r0r1 := h_x0r0r1.ext hO
            have h_x0r0r2 := h_x0r0r2.ext hO
            have hF := hF.trans (hO.mono (fun _ _ z => z.elim))
            refine lv_icmp_ne (tgt := 291) hx hb dX0_areSums_237 (by decide) (fun c40 => ?_) (fun c40 => ?_)
            · have h := it_neg h c40
              refine lv_iconst (v := 0) hx hb dX0_areSums_291 (by decide) ?_
              obtain rfl := Option.some.inj h
              rw [eQ]
              exact r_zret hx hb hr hlk hS (by decide) (Nat.le_of_ble_eq_true rfl) (Nat.le_of_ble_eq_true rfl) dX0_areSums_292 ⟨_, rfl, rfl, h_x0r0, h_x0r0r0, h_x0r0r1, h_x0r0r2, hF⟩
            · have h := it_pos h c40
              refine lv_aload_n hx hb dX0_areSums_240 rfl (lv_at hl 1 rfl) ?_
              refine r_get hx hb hts hown hS h_x0 rfl in_X0 0 (by decide) q936 rfl (v := .ref x0r0) rfl dX0_areSums_241 ?_
              refine lv_iconst (v := 1) hx hb dX0_areSums_244 (by decide) ?_
              refine lv_iload_n hx hb dX0_areSums_245 rfl (lv_at hl 2 rfl) ?_
              refine lv_iload_n hx hb dX0_areSums_246 rfl (lv_at hl 3 rfl) ?_
              obtain ⟨o41, eo41, h⟩ := bind_step h
              refine r_ci (r_runV (rest := []) (As := [.int 1, .int x1, .int x2]) hC 3 (m_X1_order x0r0 x0r0r0 x0r0r1 x0r0r2  o6.2.2.2.1 f33 o6.2.2.2.2 o6.2.1 v34 o6.2.2.1 x0r0f6 1 x1 x2 o41 eo41) q1576 q1577 q1578 q46 q1579 (OA.recv hS h_x0r0.OA (C := RX1) rfl) hd_X1_order rfl ⟨Nat.le_of_ble_eq_true rfl, Nat.le_of_ble_eq_true rfl⟩ hS ⟨h_x0r0, h_x0r0r0, h_x0r0r1, h_x0r0r2⟩ hl.1 rfl (Nat.le_of_ble_eq_true rfl) dX0_areSums_247 ⟨Nat.le_of_ble_eq_true rfl, Nat.le_of_ble_eq_true rfl⟩) hS (fun b H locs hp hS hz => ?_)
              obtain ⟨eb_, hO⟩ := hp
              rw [eb_]
              have h_x0 := h_x0.ext hO
              have h_x0r0 := h_x0r0.ext hO
              have h_x0r0r0 := h_x0r0r0.ext hO
              have h_x0r0r1 := h_x0r0r1.ext hO
              have h_x0r0r2 := h_x0r0r2.ext hO
              have hF := hF.trans (hO.mono (fun _ _ z => z.elim))
              refine lv_aload_n hx hb dX0_areSums_250 rfl (lv_at hl 1 rfl) ?_
              refine r_get hx hb hts hown hS h_x0 rfl in_X0 0 (by decide) q936 rfl (v := .ref x0r0) rfl dX0_areSums_251 ?_
              refine lv_iconst (v := 1) hx hb dX0_areSums_254 (by decide) ?_
              refine lv_iconst (v := 3) hx hb dX0_areSums_255 (by decide) ?_
              refine lv_iconst (v := 1) hx hb dX0_areSums_256 (by decide) ?_
              obtain ⟨o42, eo42, h⟩ := bind_step h
              refine r_ci (r_runV (rest := [.int o41]) (As := [.int 1, .int 3, .int 1]) hC 3 (m_X1_heightOrder x0r0 x0r0r0 x0r0r1 x0r0r2  o6.2.2.2.1 f33 o6.2.2.2.2 o6.2.1 v34 o6.2.2.1 x0r0f6 1 3 1 o42 eo42) q1604 q1288 q1289 q46 q1290 (OA.recv hS h_x0r0.OA (C := RX1) rfl) hd_X1_heightOrder rfl ⟨Nat.le_of_ble_eq_true rfl, Nat.le_of_ble_eq_true rfl⟩ hS ⟨h_x0r0, h_x0r0r0, h_x0r0r1, h_x0r0r2⟩ hl.1 rfl (Nat.le_of_ble_eq_true rfl) dX0_areSums_257 ⟨Nat.le_of_ble_eq_true rfl, Nat.le_of_ble_eq_true rfl⟩) hS (fun b H locs hp hS hz => ?_)
              obtain ⟨eb_, hO⟩ := hp
              rw [eb_]
              have h_x0 := h_x0.ext hO
              have h_x0r0 := h_x0r0.ext hO
              have h_x0r0r0 := h_x0r0r0.ext hO
              have h_x0r0r1 := h_x0r0r1.ext hO
              have h_x0r0r2 := h_x0r0r2.ext hO
              have hF := hF.trans (hO.mono (fun _ _ z => z.elim))
              refine lv_icmp_ne (tgt := 291) hx hb dX0_areSums_260 (by decide) (fun c43 => ?_) (fun c43 => ?_)
              · have h := it_neg h c43
                refine lv_iconst (v := 0) hx hb dX0_areSums_291 (by decide) ?_
                obtain rfl := Option.some.inj h
                rw [eQ]
                exact r_zret hx hb hr hlk hS (by decide) (Nat.le_of_ble_eq_true rfl) (Nat.le_of_ble_eq_true rfl) dX0_areSums_292 ⟨_, rfl, rfl, h_x0r0, h_x0r0r0, h_x0r0r1, h_x0r0r2, hF⟩
              · have h := it_pos h c43
                refine lv_aload_n hx hb dX0_areSums_263 rfl (lv_at hl 1 rfl) ?_
                refine r_get hx hb hts hown hS h_x0 rfl in_X0 0 (by decide) q936 rfl (v := .ref x0r0) rfl dX0_areSums_264 ?_
                refine lv_bipush (v := 7) hx hb dX0_areSums_267 (by decide) ?_
                obtain ⟨o44, eo44, h⟩ := bind_step h
                refine r_cz (r_runV (rest := []) (As := [.int 7]) hC 1 (m_X1_isRound x0r0 x0r0r0 x0r0r1 x0r0r2  o6.2.2.2.1 f33 o6.2.2.2.2 o6.2.1 v34 o6.2.2.1 x0r0f6 7 o44 eo44) q1584 q1585 q1586 q46 q1587 (OA.recv hS h_x0r0.OA (C := RX1) rfl) hd_X1_isRound rfl ⟨Nat.le_of_ble_eq_true rfl, Nat.le_of_ble_eq_true rfl⟩ hS ⟨h_x0r0, h_x0r0r0, h_x0r0r1, h_x0r0r2⟩ hl.1 rfl (Nat.le_of_ble_eq_true rfl) dX0_areSums_269 ⟨Nat.le_of_ble_eq_true rfl, Nat.le_of_ble_eq_true rfl⟩) hS (fun b H locs hp hS hz => ?_)
                obtain ⟨eb_, hO⟩ := hp
                rw [eb_]
                have h_x0 := h_x0.ext hO
                have h_x0r0 := h_x0r0.ext hO
                have h_x0r0r0 := h_x0r0r0.ext hO
                have h_x0r0r1 := h_x0r0r1.ext hO
                have h_x0r0r2 := h_x0r0r2.ext hO
                have hF := hF.trans (hO.mono (fun _ _ z => z.elim))
                refine r_ifz_eq (tgt := 291) hx hb dX0_areSums_272 (by decide) (fun c45 => ?_) (fun c45 => ?_)
                · have h := it_neg h (by rw [c45]; decide)
                  refine lv_iconst (v := 0) hx hb dX0_areSums_291 (by decide) ?_
                  obtain rfl := Option.some.inj h
                  rw [eQ]
                  exact r_zret hx hb hr hlk hS (by decide) (Nat.le_of_ble_eq_true rfl) (Nat.le_of_ble_eq_true rfl) dX0_areSums_292 ⟨_, rfl, rfl, h_x0r0, h_x0r0r0, h_x0r0r1, h_x0r0r2, hF⟩
                · have h := it_pos h (by rw [c45])
                  refine lv_aload_n hx hb dX0_areSums_275 rfl (lv_at hl 1 rfl) ?_
                  refine r_get hx hb hts hown hS h_x0 rfl in_X0 0 (by decide) q936 rfl (v := .ref x0r0) rfl dX0_areSums_276 ?_
                  refine lv_bipush (v := 7) hx hb dX0_areSums_279 (by decide) ?_
                  obtain ⟨o46, eo46, h⟩ := bind_step h
                  refine r_cz (r_runV (rest := []) (As := [.int 7]) hC 1 (m_X1_isSlope x0r0 x0r0r0 x0r0r1 x0r0r2  o6.2.2.2.1 f33 o6.2.2.2.2 o6.2.1 v34 o6.2.2.1 x0r0f6 7 o46 eo46) q1588 q1589 q1590 q46 q1591 (OA.recv hS h_x0r0.OA (C := RX1) rfl) hd_X1_isSlope rfl ⟨Nat.le_of_ble_eq_true rfl, Nat.le_of_ble_eq_true rfl⟩ hS ⟨h_x0r0, h_x0r0r0, h_x0r0r1, h_x0r0r2⟩ hl.1 rfl (Nat.le_of_ble_eq_true rfl) dX0_areSums_281 ⟨Nat.le_of_ble_eq_true rfl, Nat.le_of_ble_eq_true rfl⟩) hS (fun b H locs hp hS hz => ?_)
                  obtain ⟨eb_, hO⟩ := hp
                  rw [eb_]
                  have h_x0 := h_x0.ext hO
                  have h_x0r0 := h_x0r0.ext hO
                  have h_x0r0r0 := h_x0r0r0.ext hO
                  have h_x0r0r1 := h_x0r0r1.ext hO
                  have h_x0r0r2 := h_x0r0r2.ext hO
                  have hF := hF.trans (hO.mono (fun _ _ z => z.elim))
                  refine r_ifz_eq (tgt := 291) hx hb dX0_areSums_284 (by decide) (fun c47 => ?_) (fun c47 => ?_)
                  · have h := it_neg h (by rw [c47]; decide)
                    refine lv_iconst (v := 0) hx hb dX0_areSums_291 (by decide) ?_
                    obtain rfl := Option.some.inj h
                    rw [eQ]
                    exact r_zret hx hb hr hlk hS (by decide) (Nat.le_of_ble_eq_true rfl) (Nat.le_of_ble_eq_true rfl) dX0_areSums_292 ⟨_, rfl, rfl, h_x0r0, h_x0r0r0, h_x0r0r1, h_x0r0r2, hF⟩
                  · have h := it_pos h (by rw [c47])
                    refine lv_iconst (v := 1) hx hb dX0_areSums_287 (by decide) ?_
                    refine lv_goto (tgt := 292) hx hb dX0_areSums_288 (by decide) ?_
                    obtain rfl := Option.some.inj h
                    rw [eQ]
                    exact r_zret hx hb hr hlk hS (by decide) (Nat.le_of_ble_eq_true rfl) (Nat.le_of_ble_eq_true rfl) dX0_areSums_292 ⟨_, rfl, rfl, h_x0r0, h_x0r0r0, h_x0r0r1, h_x0r0r2, hF⟩
        clear eK36
        obtain ⟨K50, eK50, h⟩ := lt_step h
        have HK50 : ∀ (f48 : Nat → UInt64) (v49 : Int32) (h : K50 f48 v49 = some r) (H : Heap) (locs : List Loc) (hS : St D s H locs) (hF : Off (fun a => a = x0r0 ∨ a = x0r0r0 ∨ a = x0r0r1 ∨ a = x0r0r2) s.heap H) (h_x0 : OA D 1 x0 [.ref x0r0] H) (h_x0r0 : ON D 0 x0r0 [.ref x0r0r0, .ref x0r0r1, .ref x0r0r2, .int o6.2.1, .int v49, .int o6.2.2.1, .int x0r0f6] H) (h_x0r0r0 : aD D x0r0r0 8 o6.2.2.2.1 H) (h_x0r0r1 : aD D x0r0r1 8 f48 H) (h_x0r0r2 : aZ D x0r0r2 8 o6.2.2.2.2 H) (ls : Array Slot) (hl : lv_has ls 14 [(0, .ref x0), (1, .int x1), (2, .int x2)]), W p l e R_X0_areSums s m A below meth c H locs 1205 13244 Q (F0 m 209 ls []) := by
          intro f48 v49 h H locs hS hF h_x0 h_x0r0 h_x0r0r0 h_x0r0r1 h_x0r0r2 ls hl
          subst eK50
          refine lv_iconst (v := 0) hx hb dX0_areSums_209 (by decide) ?_
          exact HK36 f48 v49 false h H locs hS hF h_x0 h_x0r0 h_x0r0r0 h_x0r0r1 h_x0r0r2 ls (lv_sub hl [0, 1, 2] rfl)
        clear eK50
        refine r_ifz_eq (tgt := 209) hx hb dX0_areSums_172 (by decide) (fun c51 => ?_) (fun c51 => ?_)
        · have h := it_neg h (by rw [c51]; decide)
          refine W.widen (k := 1205) (n := 13244) (Nat.le_of_ble_eq_true rfl) (Nat.le_of_ble_eq_true rfl) ?_
          exact HK50 o30.2.2 o30.2.1 h H locs hS hF h_x0 h_x0r0 h_x0r0r0 h_x0r0r1 h_x0r0r2 ls (lv_sub hl [5, 6, 7] rfl)
        · have h := it_pos h (by rw [c51])
          refine lv_lload hx hb dX0_areSums_175 (lv_at hl 3 rfl) ?_
          refine lv_lload hx hb dX0_areSums_177 (lv_at hl 1 rfl) ?_
          obtain ⟨v52, ev52, h⟩ := ltl_step h
          refine r_lmul hx hb ev52 dX0_areSums_179 ?_
          refine lv_lload_n hx hb dX0_areSums_180 rfl (lv_at hl 4 rfl) ?_
          refine lv_lload hx hb dX0_areSums_181 (lv_at hl 2 rfl) ?_
          obtain ⟨v53, ev53, h⟩ := ltl_step h
          refine r_lmul hx hb ev53 dX0_areSums_183 ?_
          obtain ⟨v54, ev54, h⟩ := ltl_step h
          refine r_lsub hx hb ev54 dX0_areSums_184 ?_
          refine lv_aload_n hx hb dX0_areSums_185 rfl (lv_at hl 5 rfl) ?_
          refine lv_iconst (v := 1) hx hb dX0_areSums_186 (by decide) ?_
          refine lv_bipush (v := 7) hx hb dX0_areSums_187 (by decide) ?_
          refine lv_iconst (v := 5) hx hb dX0_areSums_189 (by decide) ?_
          obtain ⟨o55, eo55, h⟩ := bind_step h
          refine r_cl (r_runV (rest := [.long v54]) (As := [.int 1, .int 7, .int 5]) hC 3 (m_X0_answer x0 x0r0 x0r0r0 x0r0r1 x0r0r2  o6.2.2.2.1 o30.2.2 o6.2.2.2.2 o6.2.1 o30.2.1 o6.2.2.1 x0r0f6 1 7 5 o55 eo55) q1415 q1417 qs27 q39 q1418 (OA.recv hS h_x0 (C := RX0) rfl) hd_X0_answer rfl ⟨Nat.le_of_ble_eq_true rfl, Nat.le_of_ble_eq_true rfl⟩ hS ⟨h_x0, h_x0r0, hB_h_x0r0, h_x0r0r0, h_x0r0r1, hB_h_x0r0r1, h_x0r0r2, ne_x0_x0r0, ne_x0_x0r0r1, ne_x0r0_x0r0r0, ne_x0r0_x0r0r1, ne_x0r0_x0r0r2, ne_x0r0r0_x0r0r1, ne_x0r0r1_x0r0r2⟩ hl.1 rfl (Nat.le_of_ble_eq_true rfl) dX0_areSums_190 ⟨Nat.le_of_ble_eq_true rfl, Nat.le_of_ble_eq_true rfl⟩) hS (fun b H locs hp hS hz => ?_)
          obtain ⟨rfl, h_x0r0, h_x0r0r1, hO⟩ := hp
          have h_x0 := h_x0.off hO (fun z => by rcases z with z | z <;> first | exact ne_x0_x0r0 z | exact ne_x0_x0r0r1 z)
          have h_x0r0r0 := h_x0r0r0.off hO (fun z => by rcases z with z | z <;> first | exact (Ne.symm ne_x0r0_x0r0r0) z | exact ne_x0r0r0_x0r0r1 z)
          have h_x0r0r2 := h_x0r0r2.off hO (fun z => by rcases z with z | z <;> first | exact (Ne.symm ne_x0r0_x0r0r2) z | exact (Ne.symm ne_x0r0r1_x0r0r2) z)
          have hF := hF.fresh hO (fun a ha z => by
            rcases z with z | z
            · exact Or.inl z
            · exact Or.inr (Or.inr (Or.inl z)))
          refine lv_ldc2 hx hb (v := 1073741824) hown (hts _ q1239) dX0_areSums_193 ?_
          obtain ⟨v56, ev56, h⟩ := ltl_step h
          refine r_lmul hx hb ev56 dX0_areSums_196 ?_
          refine lv_lload hx hb dX0_areSums_197 (lv_at hl 0 rfl) ?_
          obtain ⟨o57, eo57, h⟩ := bind_step h
          refine r_cp (r_runS (rest := []) (As := [.long v54, .long v56, .long v26]) hC 3 (m_X0_isNear   v54 v56 v26 o57 eo57) q1545 q1546 q39 q1547 hd_X0_isNear rfl ⟨Nat.le_of_ble_eq_true rfl, Nat.le_of_ble_eq_true rfl⟩ hS trivial hl.1 rfl (Nat.le_of_ble_eq_true rfl) dX0_areSums_199 ⟨Nat.le_of_ble_eq_true rfl, Nat.le_of_ble_eq_true rfl⟩) ?_
          refine r_ifz_eq (tgt := 209) hx hb dX0_areSums_202 (by decide) (fun c58 => ?_) (fun c58 => ?_)
          · have h := it_neg h (by rw [c58]; decide)
            exact HK50 o55.2.2 o55.2.1 h H locs hS hF h_x0 h_x0r0 h_x0r0r0 h_x0r0r1 h_x0r0r2 ls (lv_sub hl [5, 6, 7] rfl)
          · have h := it_pos h (by rw [c58])
            refine lv_iconst (v := 1) hx hb dX0_areSums_205 (by decide) ?_
            refine lv_goto (tgt := 210) hx hb dX0_areSums_206 (by decide) ?_
            exact HK36 o55.2.2 o55.2.1 true h H locs hS hF h_x0 h_x0r0 h_x0r0r0 h_x0r0r1 h_x0r0r2 ls (lv_sub hl [5, 6, 7] rfl)
      · have h := it_neg h c13
        refine lv_iconst (v := 0) hx hb dX0_areSums_76 (by decide) ?_
        obtain rfl := Option.some.inj h
        rw [eQ]
        exact r_zret hx hb hr hlk hS (by decide) (Nat.le_of_ble_eq_true rfl) (Nat.le_of_ble_eq_true rfl) dX0_areSums_77 ⟨_, rfl, rfl, h_x0r0, h_x0r0r0, h_x0r0r1, h_x0r0r2, hF⟩
  · have h := it_neg h (by rw [c5]; decide)
    refine lv_aload_n hx hb dX0_areSums_17 rfl (lv_at hl 0 rfl) ?_
    refine r_get hx hb hts hown hS h_x0 rfl in_X0 0 (by decide) q936 rfl (v := .ref x0r0) rfl dX0_areSums_18 ?_
    refine lv_iload_n hx hb dX0_areSums_21 rfl (lv_at hl 1 rfl) ?_
    refine lv_iload_n hx hb dX0_areSums_22 rfl (lv_at hl 2 rfl) ?_
    refine lv_bipush (v := 7) hx hb dX0_areSums_23 (by decide) ?_
    obtain ⟨o59, eo59, h⟩ := bind_step h
    refine r_ci (r_runV (rest := []) (As := [.int x1, .int x2, .int 7]) hC 3 (m_X1_angleSum x0r0 x0r0r0 x0r0r1 x0r0r2  x0r0r0c x0r0r1c x0r0r2c x0r0f3 x0r0f4 x0r0f5 x0r0f6 x1 x2 7 o59 eo59) q1362 q1363 q1364 q46 q1365 (OA.recv hS h_x0r0.OA (C := RX1) rfl) hd_X1_angleSum rfl ⟨Nat.le_of_ble_eq_true rfl, Nat.le_of_ble_eq_true rfl⟩ hS ⟨h_x0r0, hB_h_x0r0, h_x0r0r0, hB_h_x0r0r0, h_x0r0r1, h_x0r0r2, hB_h_x0r0r2, ne_x0r0_x0r0r0, ne_x0r0_x0r0r1, ne_x0r0_x0r0r2, ne_x0r0r0_x0r0r1, ne_x0r0r0_x0r0r2, ne_x0r0r1_x0r0r2⟩ hl.1 rfl (Nat.le_of_ble_eq_true rfl) dX0_areSums_25 ⟨Nat.le_of_ble_eq_true rfl, Nat.le_of_ble_eq_true rfl⟩) hS (fun b H locs hp hS hz => ?_)
    obtain ⟨rfl, h_x0r0, h_x0r0r0, h_x0r0r2, hO⟩ := hp
    have h_x0 := h_x0.off hO (fun z => by rcases z with z | z | z <;> first | exact ne_x0_x0r0 z | exact ne_x0_x0r0r0 z | exact ne_x0_x0r0r2 z)
    have h_x0r0r1 := h_x0r0r1.off hO (fun z => by rcases z with z | z | z <;> first | exact (Ne.symm ne_x0r0_x0r0r1) z | exact (Ne.symm ne_x0r0r0_x0r0r1) z | exact ne_x0r0r1_x0r0r2 z)
    have hF := hF.fresh hO (fun a ha z => by
      rcases z with z | z | z
      · exact Or.inl z
      · exact Or.inr (Or.inl z)
      · exact Or.inr (Or.inr (Or.inr (z))))
    refine lv_bipush (v := (-9)) hx hb dX0_areSums_28 (by decide) ?_
    refine lv_icmp_ne (tgt := 37) hx hb dX0_areSums_30 (by decide) (fun c60 => ?_) (fun c60 => ?_)
    · have h := it_neg h c60
      refine lv_iconst (v := 0) hx hb dX0_areSums_37 (by decide) ?_
      obtain rfl := Option.some.inj h
      rw [eQ]
      exact r_zret hx hb hr hlk hS (by decide) (Nat.le_of_ble_eq_true rfl) (Nat.le_of_ble_eq_true rfl) dX0_areSums_38 ⟨_, rfl, rfl, h_x0r0, h_x0r0r0, h_x0r0r1, h_x0r0r2, hF⟩
    · have h := it_pos h c60
      refine lv_iconst (v := 1) hx hb dX0_areSums_33 (by decide) ?_
      refine lv_goto (tgt := 38) hx hb dX0_areSums_34 (by decide) ?_
      obtain rfl := Option.some.inj h
      rw [eQ]
      exact r_zret hx hb hr hlk hS (by decide) (Nat.le_of_ble_eq_true rfl) (Nat.le_of_ble_eq_true rfl) dX0_areSums_38 ⟨_, rfl, rfl, h_x0r0, h_x0r0r0, h_x0r0r1, h_x0r0r2, hF⟩

abbrev R_X0_areAngles : Room := { frames := 14, cells := 7330, slots := 74728, locals := 1552 }
noncomputable def f_X0_areAngles (x0r0r0c : Nat → UInt64) (x0r0r1c : Nat → UInt64) (x0r0r2c : Nat → Int32) (x0r0f3 : Int32) (x0r0f4 : Int32) (x0r0f5 : Int32) (x0r0f6 : Int32) (x1 : Int32) (x2 : Int32) : Option (Bool × Int32 × Int32 × (Nat → UInt64) × (Nat → Int32)) :=
  Option.bind (f_X0_puts x0r0r0c x0r0r1c x0r0r2c x0r0f3 x0r0f4 x0r0f5 x0r0f6 0 x1) fun o1 =>
  (if o1.1 = true then
    Option.bind (f_X0_puts o1.2.2.1 x0r0r1c o1.2.2.2 o1.2.1 x0r0f4 x0r0f5 x0r0f6 1 x2) fun o3 =>
    (if o3.1 = true then
      Option.bind (f_X0_its o3.2.2.1 x0r0r1c o3.2.2.2 o3.2.1 x0r0f4 x0r0f5 x0r0f6 0) fun o5 =>
      Option.bind (f_X0_its o3.2.2.1 x0r0r1c o3.2.2.2 o3.2.1 x0r0f4 x0r0f5 x0r0f6 1) fun o6 =>
      Option.bind (f_X1_house o3.2.2.1 x0r0r1c o3.2.2.2 o3.2.1 x0r0f4 x0r0f5 x0r0f6 2) fun o7 =>
      Option.bind (f_X1_angleCopy o3.2.2.1 x0r0r1c o3.2.2.2 o3.2.1 x0r0f4 x0r0f5 x0r0f6 0 2) fun o8 =>
      Option.bind (f_X1_angleKnown o8.2.2.1 x0r0r1c o8.2.2.2 o8.2.1 x0r0f4 x0r0f5 x0r0f6 3 1) fun o9 =>
      Option.bind (f_X1_angleTwice o9.2.2.1 x0r0r1c o9.2.2.2 o9.2.1 x0r0f4 x0r0f5 x0r0f6 2) fun o10 =>
      Option.bind (f_X1_angleSum o10.2.2.2.1 x0r0r1c o10.2.2.2.2 o10.2.1 x0r0f4 o10.2.2.1 x0r0f6 0 0 3) fun o11 =>
      ltl ((2 * o5 : Int64)) fun v12 =>
      Option.bind (f_X0_isIn v12) fun o13 =>
      lt (fun (f14 : Nat → UInt64) (f15 : Nat → Int32) (v16 : Int32) (v17 : Bool) =>
      Option.bind (f_X1_angleKnown f14 x0r0r1c f15 v16 x0r0f4 o11.2.2.1 x0r0f6 4 1) fun o19 =>
      Option.bind (f_X1_angleKnown o19.2.2.1 x0r0r1c o19.2.2.2 o19.2.1 x0r0f4 o11.2.2.1 x0r0f6 5 1) fun o20 =>
      Option.bind (f_X1_house o20.2.2.1 x0r0r1c o20.2.2.2 o20.2.1 x0r0f4 o11.2.2.1 x0r0f6 2) fun o21 =>
      Option.bind (f_X1_angleSum o20.2.2.1 x0r0r1c o20.2.2.2 o20.2.1 x0r0f4 o11.2.2.1 x0r0f6 0 1 4) fun o22 =>
      Option.bind (f_X1_angleSum o22.2.2.2.1 x0r0r1c o22.2.2.2.2 o22.2.1 x0r0f4 o22.2.2.1 x0r0f6 1 0 5) fun o23 =>
      ltl ((o5 + o6 : Int64)) fun v24 =>
      Option.bind (f_X0_isIn v24) fun o25 =>
      lt (fun (f26 : Nat → UInt64) (f27 : Nat → Int32) (v28 : Int32) (v29 : Int32) (v30 : Bool) =>
      Option.bind (f_X1_angleCopy f26 x0r0r1c f27 v28 x0r0f4 v29 x0r0f6 0 6) fun o32 =>
      Option.bind (f_X1_house o32.2.2.1 x0r0r1c o32.2.2.2 o32.2.1 x0r0f4 v29 x0r0f6 2) fun o33 =>
      lti (x1 &&& 16) fun v34 =>
      lt (fun (v35 : Bool) =>
      Option.bind (f_X1_angleStep o32.2.2.1 x0r0r1c o32.2.2.2 o32.2.1 x0r0f4 v29 x0r0f6 6 v35) fun o37 =>
      lt (fun (v38 : Int32) =>
      ltl (v38.toInt64) fun v40 =>
      ltl ((o5 + v40 : Int64)) fun v41 =>
      lt (fun (f42 : Nat → UInt64) (f43 : Nat → Int32) (v44 : Int32) (v45 : Int32) (v46 : Bool) =>
      Option.bind (f_X1_angleCopy f42 x0r0r1c f43 v44 x0r0f4 v45 x0r0f6 0 7) fun o48 =>
      Option.bind (f_X1_angleTurn o48.2.2.1 x0r0r1c o48.2.2.2 o48.2.1 x0r0f4 v45 x0r0f6 7) fun o49 =>
      Option.bind (f_X1_angleOrder o49.2.2.1 x0r0r1c o49.2.2.2 o49.2.1 x0r0f4 v45 x0r0f6 7 0 1) fun o50 =>
      lt (fun (f51 : Nat → UInt64) (f52 : Nat → Int32) (v53 : Int32) (v54 : Bool) =>
      (if v54 = true then
        Option.bind (f_X1_angleTurn f51 x0r0r1c f52 v53 x0r0f4 v45 x0r0f6 7) fun o57 =>
        lti (1 - o49.1) fun v58 =>
        (if o57.1 = v58 then
          Option.bind (f_X1_angleSame o57.2.2.1 x0r0r1c o57.2.2.2 o57.2.1 x0r0f4 v45 x0r0f6 7 0 2) fun o60 =>
          (if o60 = true then
            Option.bind (f_X1_angleSame o57.2.2.1 x0r0r1c o57.2.2.2 o57.2.1 x0r0f4 v45 x0r0f6 0 1 1) fun o62 =>
            lti (lg_cmp o5 o6) fun v63 =>
            lt (fun (v64 : Bool) =>
            (if (bI o62) = (bI v64) then
              Option.bind (f_X1_angleOrder o57.2.2.1 x0r0r1c o57.2.2.2 o57.2.1 x0r0f4 v45 x0r0f6 0 1 0) fun o67 =>
              Option.bind (f_X1_angleOrder o57.2.2.1 x0r0r1c o57.2.2.2 o57.2.1 x0r0f4 v45 x0r0f6 1 0 1) fun o68 =>
              lti (-o68) fun v69 =>
              (if o67 = v69 then
                Option.bind (f_X1_angleOrder o57.2.2.1 x0r0r1c o57.2.2.2 o57.2.1 x0r0f4 v45 x0r0f6 0 1 0) fun o71 =>
                lti (lg_cmp o5 o6) fun v72 =>
                lt (fun (v73 : Int32) =>
                (if o71 = v73 then
                  some (true, o57.2.1, v45, o57.2.2.1, o57.2.2.2)
                else
                  some (false, o57.2.1, v45, o57.2.2.1, o57.2.2.2)
                )
                ) fun K74 =>
                (if 0 ≤ v72 then
                  lti (lg_cmp o5 o6) fun v77 =>
                  (if v77 ≤ 0 then
                    K74 0
                  else
                    K74 1
                  )
                else
                  K74 (-1)
                )
              else
                some (false, o57.2.1, v45, o57.2.2.1, o57.2.2.2)
              )
            else
              some (false, o57.2.1, v45, o57.2.2.1, o57.2.2.2)
            )
            ) fun K65 =>
            (if v63 = 0 then
              K65 true
            else
              K65 false
            )
          else
            some (false, o57.2.1, v45, o57.2.2.1, o57.2.2.2)
          )
        else
          some (false, o57.2.1, v45, o57.2.2.1, o57.2.2.2)
        )
      else
        some (false, v53, v45, f51, f52)
      )
      ) fun K55 =>
      lt (fun (f80 : Nat → UInt64) (f81 : Nat → Int32) (v82 : Int32) =>
      K55 f80 f81 v82 false
      ) fun K83 =>
      (if v46 = true then
        Option.bind (f_X1_angleText o49.2.2.1 x0r0r1c o49.2.2.2 o49.2.1 x0r0f4 v45 x0r0f6 0) fun o85 =>
        Option.bind (f_J5_charAt o85.1 o85.2 0) fun o88 =>
        lt (fun (v89 : Bool) =>
        (if o49.1 = (bI v89) then
          lt (fun (v92 : Int32) =>
          (if o50 = v92 then
            Option.bind (f_X1_angleText o49.2.2.1 x0r0r1c o49.2.2.2 o49.2.1 x0r0f4 v45 x0r0f6 7) fun o95 =>
            Option.bind (f_J5_substring o95.1 o95.2 1) fun o98 =>
            Option.bind (f_X1_angleText o49.2.2.1 x0r0r1c o49.2.2.2 o49.2.1 x0r0f4 v45 x0r0f6 0) fun o101 =>
            Option.bind (f_J5_substring o101.1 o101.2 1) fun o104 =>
            Option.bind (f_J5_equals o98.1 o98.2 o104.1 o104.2) fun o107 =>
            (if o107 = true then
              Option.bind (f_X0_its o49.2.2.1 x0r0r1c o49.2.2.2 o49.2.1 x0r0f4 v45 x0r0f6 7) fun o109 =>
              ltl (-o5) fun v110 =>
              lti (lg_cmp o109 v110) fun v111 =>
              (if v111 = 0 then
                Option.bind (f_X1_angleSame o49.2.2.1 x0r0r1c o49.2.2.2 o49.2.1 x0r0f4 v45 x0r0f6 7 0 1) fun o113 =>
                (if o113 = true then
                  K83 o49.2.2.1 o49.2.2.2 o49.2.1
                else
                  Option.bind (f_X1_angleCopy o49.2.2.1 x0r0r1c o49.2.2.2 o49.2.1 x0r0f4 v45 x0r0f6 7 6) fun o115 =>
                  (if o115.1 = 1 then
                    K55 o115.2.2.1 o115.2.2.2 o115.2.1 true
                  else
                    K83 o115.2.2.1 o115.2.2.2 o115.2.1
                  )
                )
              else
                K83 o49.2.2.1 o49.2.2.2 o49.2.1
              )
            else
              K83 o49.2.2.1 o49.2.2.2 o49.2.1
            )
          else
            K83 o49.2.2.1 o49.2.2.2 o49.2.1
          )
          ) fun K93 =>
          (if o49.1 = 1 then
            K93 (-1)
          else
            K93 1
          )
        else
          K83 o49.2.2.1 o49.2.2.2 o49.2.1
        )
        ) fun K90 =>
        (if o88 = 48 then
          K90 true
        else
          K90 false
        )
      else
        K83 o49.2.2.1 o49.2.2.2 o49.2.1
      )
      ) fun K47 =>
      lt (fun (f119 : Nat → UInt64) (f120 : Nat → Int32) (v121 : Int32) (v122 : Int32) =>
      K47 f119 f120 v121 v122 false
      ) fun K123 =>
      (if v30 = true then
        Option.bind (f_X0_size o5) fun o125 =>
        lti (lg_cmp o125 32768) fun v126 =>
        lt (fun (f127 : Nat → UInt64) (f128 : Nat → Int32) (v129 : Int32) (v130 : Int32) =>
        K47 f127 f128 v129 v130 true
        ) fun K131 =>
        lt (fun (_u : Unit) =>
        (if o37.1 = (-9) then
          Option.bind (f_X0_its o37.2.2.2.1 x0r0r1c o37.2.2.2.2 o37.2.1 x0r0f4 o37.2.2.1 x0r0f6 6) fun o134 =>
          lti (lg_cmp o134 o5) fun v135 =>
          (if v135 = 0 then
            Option.bind (f_X1_house o37.2.2.2.1 x0r0r1c o37.2.2.2.2 o37.2.1 x0r0f4 o37.2.2.1 x0r0f6 2) fun o137 =>
            lti (o33 + 1) fun v138 =>
            (if o137 = v138 then
              K131 o37.2.2.2.1 o37.2.2.2.2 o37.2.1 o37.2.2.1
            else
              K123 o37.2.2.2.1 o37.2.2.2.2 o37.2.1 o37.2.2.1
            )
          else
            K123 o37.2.2.2.1 o37.2.2.2.2 o37.2.1 o37.2.2.1
          )
        else
          K123 o37.2.2.2.1 o37.2.2.2.2 o37.2.1 o37.2.2.1
        )
        ) fun K132 =>
        (if 0 < v126 then
          K132 ()
        else
          Option.bind (f_X0_size v41) fun o141 =>
          lti (lg_cmp o141 32768) fun v142 =>
          (if v142 ≤ 0 then
            (if o37.1 = 1 then
              Option.bind (f_X0_its o37.2.2.2.1 x0r0r1c o37.2.2.2.2 o37.2.1 x0r0f4 o37.2.2.1 x0r0f6 6) fun o145 =>
              lti (lg_cmp o145 v41) fun v146 =>
              (if v146 = 0 then
                Option.bind (f_X1_angleOrder o37.2.2.2.1 x0r0r1c o37.2.2.2.2 o37.2.1 x0r0f4 o37.2.2.1 x0r0f6 0 6 0) fun o148 =>
                lt (fun (v149 : Int32) =>
                (if o148 = v149 then
                  lt (fun (v152 : Bool) =>
                  Option.bind (f_X1_angleStep o37.2.2.2.1 x0r0r1c o37.2.2.2.2 o37.2.1 x0r0f4 o37.2.2.1 x0r0f6 6 v152) fun o154 =>
                  (if o154.1 = 1 then
                    Option.bind (f_X0_its o154.2.2.2.1 x0r0r1c o154.2.2.2.2 o154.2.1 x0r0f4 o154.2.2.1 x0r0f6 6) fun o156 =>
                    lti (lg_cmp o156 o5) fun v157 =>
                    (if v157 = 0 then
                      K131 o154.2.2.2.1 o154.2.2.2.2 o154.2.1 o154.2.2.1
                    else
                      K123 o154.2.2.2.1 o154.2.2.2.2 o154.2.1 o154.2.2.1
                    )
                  else
                    K123 o154.2.2.2.1 o154.2.2.2.2 o154.2.1 o154.2.2.1
                  )
                  ) fun K153 =>
                  (if v35 = true then
                    K153 false
                  else
                    K153 true
                  )
                else
                  K123 o37.2.2.2.1 o37.2.2.2.2 o37.2.1 o37.2.2.1
                )
                ) fun K150 =>
                (if v35 = true then
                  K150 1
                else
                  K150 (-1)
                )
              else
                K123 o37.2.2.2.1 o37.2.2.2.2 o37.2.1 o37.2.2.1
              )
            else
              K123 o37.2.2.2.1 o37.2.2.2.2 o37.2.1 o37.2.2.1
            )
          else
            K132 ()
          )
        )
      else
        K123 o37.2.2.2.1 o37.2.2.2.2 o37.2.1 o37.2.2.1
      )
      ) fun K39 =>
      (if v35 = true then
        K39 (-1)
      else
        K39 1
      )
      ) fun K36 =>
      (if v34 = 0 then
        K36 false
      else
        K36 true
      )
      ) fun K31 =>
      (if o25 = true then
        lt (fun (f173 : Nat → UInt64) (f174 : Nat → Int32) (v175 : Int32) (v176 : Int32) (v177 : Bool) =>
        K31 f173 f174 v175 v176 v177
        ) fun K178 =>
        lt (fun (f179 : Nat → UInt64) (f180 : Nat → Int32) (v181 : Int32) (v182 : Int32) =>
        K178 f179 f180 v181 v182 false
        ) fun K183 =>
        (if v17 = true then
          (if o22.1 = 1 then
            (if o23.1 = 1 then
              Option.bind (f_X0_its o23.2.2.2.1 x0r0r1c o23.2.2.2.2 o23.2.1 x0r0f4 o23.2.2.1 x0r0f6 4) fun o187 =>
              ltl ((o5 + o6 : Int64)) fun v188 =>
              lti (lg_cmp o187 v188) fun v189 =>
              (if v189 = 0 then
                Option.bind (f_X1_angleCopy o23.2.2.2.1 x0r0r1c o23.2.2.2.2 o23.2.1 x0r0f4 o23.2.2.1 x0r0f6 4 5) fun o191 =>
                (if o191.1 = 0 then
                  Option.bind (f_X1_angleTurn o191.2.2.1 x0r0r1c o191.2.2.2 o191.2.1 x0r0f4 o23.2.2.1 x0r0f6 1) fun o193 =>
                  lti (lg_cmp o6 0) fun v194 =>
                  lt (fun (v195 : Bool) =>
                  (if o193.1 = (bI v195) then
                    Option.bind (f_X1_angleSum o193.2.2.1 x0r0r1c o193.2.2.2 o193.2.1 x0r0f4 o23.2.2.1 x0r0f6 4 1 5) fun o198 =>
                    lti (lg_cmp o6 0) fun v199 =>
                    lt (fun (v200 : Bool) =>
                    (if o198.1 = (bI v200) then
                      Option.bind (f_X0_its o198.2.2.2.1 x0r0r1c o198.2.2.2.2 o198.2.1 x0r0f4 o198.2.2.1 x0r0f6 5) fun o203 =>
                      lti (lg_cmp o203 o5) fun v204 =>
                      (if v204 = 0 then
                        Option.bind (f_X1_angleTurn o198.2.2.2.1 x0r0r1c o198.2.2.2.2 o198.2.1 x0r0f4 o198.2.2.1 x0r0f6 1) fun o206 =>
                        lti (lg_cmp o6 0) fun v207 =>
                        lt (fun (v208 : Bool) =>
                        (if o206.1 = (bI v208) then
                          Option.bind (f_X0_its o206.2.2.1 x0r0r1c o206.2.2.2 o206.2.1 x0r0f4 o198.2.2.1 x0r0f6 1) fun o211 =>
                          lti (lg_cmp o211 o6) fun v212 =>
                          (if v212 = 0 then
                            Option.bind (f_X1_house o206.2.2.1 x0r0r1c o206.2.2.2 o206.2.1 x0r0f4 o198.2.2.1 x0r0f6 2) fun o214 =>
                            (if o214 = o21 then
                              K178 o206.2.2.1 o206.2.2.2 o206.2.1 o198.2.2.1 true
                            else
                              K183 o206.2.2.1 o206.2.2.2 o206.2.1 o198.2.2.1
                            )
                          else
                            K183 o206.2.2.1 o206.2.2.2 o206.2.1 o198.2.2.1
                          )
                        else
                          K183 o206.2.2.1 o206.2.2.2 o206.2.1 o198.2.2.1
                        )
                        ) fun K209 =>
                        (if 0 ≤ v207 then
                          K209 false
                        else
                          K209 true
                        )
                      else
                        K183 o198.2.2.2.1 o198.2.2.2.2 o198.2.1 o198.2.2.1
                      )
                    else
                      K183 o198.2.2.2.1 o198.2.2.2.2 o198.2.1 o198.2.2.1
                    )
                    ) fun K201 =>
                    (if v199 = 0 then
                      K201 false
                    else
                      K201 true
                    )
                  else
                    K183 o193.2.2.1 o193.2.2.2 o193.2.1 o23.2.2.1
                  )
                  ) fun K196 =>
                  (if 0 ≤ v194 then
                    K196 true
                  else
                    K196 false
                  )
                else
                  K183 o191.2.2.1 o191.2.2.2 o191.2.1 o23.2.2.1
                )
              else
                K183 o23.2.2.2.1 o23.2.2.2.2 o23.2.1 o23.2.2.1
              )
            else
              K183 o23.2.2.2.1 o23.2.2.2.2 o23.2.1 o23.2.2.1
            )
          else
            K183 o23.2.2.2.1 o23.2.2.2.2 o23.2.1 o23.2.2.1
          )
        else
          K183 o23.2.2.2.1 o23.2.2.2.2 o23.2.1 o23.2.2.1
        )
      else
        lt (fun (v164 : Bool) =>
        K31 o23.2.2.2.1 o23.2.2.2.2 o23.2.1 o23.2.2.1 v164
        ) fun K165 =>
        lt (fun (_u : Unit) =>
        K165 false
        ) fun K166 =>
        (if v17 = true then
          (if o22.1 = (-9) then
            (if o23.1 = (-9) then
              Option.bind (f_X1_house o23.2.2.2.1 x0r0r1c o23.2.2.2.2 o23.2.1 x0r0f4 o23.2.2.1 x0r0f6 2) fun o170 =>
              lti (o21 + 2) fun v171 =>
              (if o170 = v171 then
                K165 true
              else
                K166 ()
              )
            else
              K166 ()
            )
          else
            K166 ()
          )
        else
          K166 ()
        )
      )
      ) fun K18 =>
      (if o13 = true then
        lti (lg_cmp o5 0) fun v231 =>
        lt (fun (v232 : Bool) =>
        lt (fun (f234 : Nat → UInt64) (f235 : Nat → Int32) (v236 : Int32) =>
        K18 f234 f235 v236 false
        ) fun K237 =>
        (if o10.1 = (bI v232) then
          (if o11.1 = 1 then
            Option.bind (f_X0_its o11.2.2.2.1 x0r0r1c o11.2.2.2.2 o11.2.1 x0r0f4 o11.2.2.1 x0r0f6 2) fun o240 =>
            ltl ((2 * o5 : Int64)) fun v241 =>
            lti (lg_cmp o240 v241) fun v242 =>
            (if v242 = 0 then
              Option.bind (f_X1_angleCopy o11.2.2.2.1 x0r0r1c o11.2.2.2.2 o11.2.1 x0r0f4 o11.2.2.1 x0r0f6 2 3) fun o244 =>
              (if o244.1 = 0 then
                Option.bind (f_X1_house o244.2.2.1 x0r0r1c o244.2.2.2 o244.2.1 x0r0f4 o11.2.2.1 x0r0f6 2) fun o246 =>
                (if o246 = o7 then
                  K18 o244.2.2.1 o244.2.2.2 o244.2.1 true
                else
                  K237 o244.2.2.1 o244.2.2.2 o244.2.1
                )
              else
                K237 o244.2.2.1 o244.2.2.2 o244.2.1
              )
            else
              K237 o11.2.2.2.1 o11.2.2.2.2 o11.2.1
            )
          else
            K237 o11.2.2.2.1 o11.2.2.2.2 o11.2.1
          )
        else
          K237 o11.2.2.2.1 o11.2.2.2.2 o11.2.1
        )
        ) fun K233 =>
        (if v231 = 0 then
          K233 false
        else
          K233 true
        )
      else
        lt (fun (_u : Unit) =>
        K18 o11.2.2.2.1 o11.2.2.2.2 o11.2.1 false
        ) fun K220 =>
        (if o10.1 = (-9) then
          (if o11.1 = (-9) then
            Option.bind (f_X0_its o11.2.2.2.1 x0r0r1c o11.2.2.2.2 o11.2.1 x0r0f4 o11.2.2.1 x0r0f6 2) fun o223 =>
            lti (lg_cmp o223 o5) fun v224 =>
            (if v224 = 0 then
              Option.bind (f_X1_angleUpper o11.2.2.2.1 x0r0r1c o11.2.2.2.2 o11.2.1 x0r0f4 o11.2.2.1 x0r0f6 3) fun o226 =>
              (if o226 = (-2147483648) then
                Option.bind (f_X1_house o11.2.2.2.1 x0r0r1c o11.2.2.2.2 o11.2.1 x0r0f4 o11.2.2.1 x0r0f6 2) fun o228 =>
                lti (o7 + 2) fun v229 =>
                (if o228 = v229 then
                  K18 o11.2.2.2.1 o11.2.2.2.2 o11.2.1 true
                else
                  K220 ()
                )
              else
                K220 ()
              )
            else
              K220 ()
            )
          else
            K220 ()
          )
        else
          K220 ()
        )
      )
    else
      some (false, o3.2.1, x0r0f5, o3.2.2.1, o3.2.2.2)
    )
  else
    some (false, o1.2.1, x0r0f5, o1.2.2.1, o1.2.2.2)
  )
theorem hd_X0_areAngles : Hd yX0_areAngles 2 := by unfold Hd; decide +kernel
set_option maxHeartbeats 4000000 in
set_option maxRecDepth 100000 in
theorem m_X0_areAngles {l : Launch} {D : DD} (x0 : Nat) (x0r0 : Nat) (x0r0r0 : Nat) (x0r0r1 : Nat) (x0r0r2 : Nat)  (x0r0r0c : Nat → UInt64) (x0r0r1c : Nat → UInt64) (x0r0r2c : Nat → Int32) (x0r0f3 : Int32) (x0r0f4 : Int32) (x0r0f5 : Int32) (x0r0f6 : Int32) (x1 : Int32) (x2 : Int32) (r : Bool × Int32 × Int32 × (Nat → UInt64) × (Nat → Int32)) (h : f_X0_areAngles x0r0r0c x0r0r1c x0r0r2c x0r0f3 x0r0f4 x0r0f5 x0r0f6 x1 x2 = some r) : MT l D yX0_areAngles cX0_areAngles 19 (some .boolean) 14 1552 7330 74728 [.ref x0, .int x1, .int x2] (fun H => OA D 1 x0 [.ref x0r0] H ∧ ON D 0 x0r0 [.ref x0r0r0, .ref x0r0r1, .ref x0r0r2, .int x0r0f3, .int x0r0f4, .int x0r0f5, .int x0r0f6] H ∧ dB D ≤ x0r0 ∧ aD D x0r0r0 8 x0r0r0c H ∧ dB D ≤ x0r0r0 ∧ aD D x0r0r1 8 x0r0r1c H ∧ aZ D x0r0r2 8 x0r0r2c H ∧ dB D ≤ x0r0r2 ∧ x0 ≠ x0r0 ∧ x0 ≠ x0r0r0 ∧ x0 ≠ x0r0r2 ∧ x0r0 ≠ x0r0r0 ∧ x0r0 ≠ x0r0r1 ∧ x0r0 ≠ x0r0r2 ∧ x0r0r0 ≠ x0r0r1 ∧ x0r0r0 ≠ x0r0r2 ∧ x0r0r1 ≠ x0r0r2) (pZ (fun H b H' => b = r.1 ∧ ON D 0 x0r0 [.ref x0r0r0, .ref x0r0r1, .ref x0r0r2, .int r.2.1, .int x0r0f4, .int r.2.2.1, .int x0r0f6] H' ∧ aD D x0r0r0 8 r.2.2.2.1 H' ∧ aZ D x0r0r2 8 r.2.2.2.2 H' ∧ Off (fun a => a = x0r0 ∨ a = x0r0r0 ∨ a = x0r0r2) H H')) := by
  refine MT.start (by decide +kernel) (Nat.le_of_ble_eq_true rfl) ?_
  intro p e s m below meth c ls hC hS hp hl
  obtain ⟨h_x0, h_x0r0, hB_h_x0r0, h_x0r0r0, hB_h_x0r0r0, h_x0r0r1, h_x0r0r2, hB_h_x0r0r2, ne_x0_x0r0, ne_x0_x0r0r0, ne_x0_x0r0r2, ne_x0r0_x0r0r0, ne_x0r0_x0r0r1, ne_x0r0_x0r0r2, ne_x0r0r0_x0r0r1, ne_x0r0r0_x0r0r2, ne_x0r0r1_x0r0r2⟩ := hp
  obtain ⟨hx, hb, hr, hlk, hml, hown, hts, hnm⟩ := id hC
  have hl : lv_has ls 19 [(0, .ref x0), (1, .int x1), (2, .int x2)] := hl
  unfold f_X0_areAngles at h
  have hS0 := hS
  obtain ⟨A, eA⟩ : ∃ A : Array Value, A = [.ref x0, .int x1, .int x2].toArray := ⟨_, rfl⟩
  rw [← eA] at hC hts ⊢
  obtain ⟨Q, eQ⟩ : ∃ Q : State → Prop, Q = MQ below (TQ D (pZ (fun H b H' => b = r.1 ∧ ON D 0 x0r0 [.ref x0r0r0, .ref x0r0r1, .ref x0r0r2, .int r.2.1, .int x0r0f4, .int r.2.2.1, .int x0r0f6] H' ∧ aD D x0r0r0 8 r.2.2.2.1 H' ∧ aZ D x0r0r2 8 r.2.2.2.2 H' ∧ Off (fun a => a = x0r0 ∨ a = x0r0r0 ∨ a = x0r0r2) H H'))) A s 7330 74728 (fun q => dB D ≤ q) := ⟨_, rfl⟩
  have hF : Off (fun a => a = x0r0 ∨ a = x0r0r0 ∨ a = x0r0r2) s.heap s.heap := Off.rf
  show W p l e R_X0_areAngles s m A below meth c s.heap [] 0 0 _ _
  rw [← eQ]
  obtain ⟨H, eH⟩ : ∃ H : Heap, H = s.heap := ⟨_, rfl⟩
  obtain ⟨locs, eLc⟩ : ∃ L : List Loc, L = [] := ⟨_, rfl⟩
  have lt_h_x0 := h_x0.lt
  have lt_h_x0r0 := h_x0r0.lt
  have lt_h_x0r0r0 := h_x0r0r0.lt
  have lt_h_x0r0r1 := h_x0r0r1.lt
  have lt_h_x0r0r2 := h_x0r0r2.lt
  rw [← eH, ← eLc]
  have hF : Off (fun a => a = x0r0 ∨ a = x0r0r0 ∨ a = x0r0r2) s.heap H := by rw [eH]; exact hF
  rw [← eH] at h_x0
  rw [← eH] at h_x0r0
  rw [← eH] at h_x0r0r0
  rw [← eH] at h_x0r0r1
  rw [← eH] at h_x0r0r2
  have hS : St D s H locs := by rw [eH, eLc]; exact hS
  refine lv_aload_n hx hb dX0_areAngles_0 rfl (lv_at hl 0 rfl) ?_
  refine lv_iconst (v := 0) hx hb dX0_areAngles_1 (by decide) ?_
  refine lv_iload_n hx hb dX0_areAngles_2 rfl (lv_at hl 1 rfl) ?_
  obtain ⟨o1, eo1, h⟩ := bind_step h
  refine r_cz (r_runV (rest := []) (As := [.int 0, .int x1]) hC 2 (m_X0_puts x0 x0r0 x0r0r0 x0r0r1 x0r0r2  x0r0r0c x0r0r1c x0r0r2c x0r0f3 x0r0f4 x0r0f5 x0r0f6 0 x1 o1 eo1) q1492 q1494 qs29 q39 q1495 (OA.recv hS h_x0 (C := RX0) rfl) hd_X0_puts rfl ⟨Nat.le_of_ble_eq_true rfl, Nat.le_of_ble_eq_true rfl⟩ hS ⟨h_x0, h_x0r0, hB_h_x0r0, h_x0r0r0, hB_h_x0r0r0, h_x0r0r1, h_x0r0r2, hB_h_x0r0r2, ne_x0_x0r0, ne_x0_x0r0r0, ne_x0_x0r0r2, ne_x0r0_x0r0r0, ne_x0r0_x0r0r1, ne_x0r0_x0r0r2, ne_x0r0r0_x0r0r1, ne_x0r0r0_x0r0r2, ne_x0r0r1_x0r0r2⟩ hl.1 rfl (Nat.le_of_ble_eq_true rfl) dX0_areAngles_3 ⟨Nat.le_of_ble_eq_true rfl, Nat.le_of_ble_eq_true rfl⟩) hS (fun b H locs hp hS hz => ?_)
  obtain ⟨rfl, h_x0r0, h_x0r0r0, h_x0r0r2, hO⟩ := hp
  have h_x0 := h_x0.off hO (fun z => by rcases z with z | z | z <;> first | exact ne_x0_x0r0 z | exact ne_x0_x0r0r0 z | exact ne_x0_x0r0r2 z)
  have h_x0r0r1 := h_x0r0r1.off hO (fun z => by rcases z with z | z | z <;> first | exact (Ne.symm ne_x0r0_x0r0r1) z | exact (Ne.symm ne_x0r0r0_x0r0r1) z | exact ne_x0r0r1_x0r0r2 z)
  have hF := hF.fresh hO (fun a ha z => by
    rcases z with z | z | z
    · exact Or.inl z
    · exact Or.inr (Or.inl z)
    · exact Or.inr (Or.inr (z)))
  refine r_ifz_eq (tgt := 18) hx hb dX0_areAngles_6 (by decide) (fun c2 => ?_) (fun c2 => ?_)
  · have h := it_neg h (by rw [c2]; decide)
    refine lv_iconst (v := 0) hx hb dX0_areAngles_18 (by decide) ?_
    obtain rfl := Option.some.inj h
    rw [eQ]
    exact r_zret hx hb hr hlk hS (by decide) (Nat.le_of_ble_eq_true rfl) (Nat.le_of_ble_eq_true rfl) dX0_areAngles_19 ⟨_, rfl, rfl, h_x0r0, h_x0r0r0, h_x0r0r2, hF⟩
  · have h := it_pos h (by rw [c2])
    refine lv_aload_n hx hb dX0_areAngles_9 rfl (lv_at hl 0 rfl) ?_
    refine lv_iconst (v := 1) hx hb dX0_areAngles_10 (by decide) ?_
    refine lv_iload_n hx hb dX0_areAngles_11 rfl (lv_at hl 2 rfl) ?_
    obtain ⟨o3, eo3, h⟩ := bind_step h
    refine r_cz (r_runV (rest := []) (As := [.int 1, .int x2]) hC 2 (m_X0_puts x0 x0r0 x0r0r0 x0r0r1 x0r0r2  o1.2.2.1 x0r0r1c o1.2.2.2 o1.2.1 x0r0f4 x0r0f5 x0r0f6 1 x2 o3 eo3) q1492 q1494 qs29 q39 q1495 (OA.recv hS h_x0 (C := RX0) rfl) hd_X0_puts rfl ⟨Nat.le_of_ble_eq_true rfl, Nat.le_of_ble_eq_true rfl⟩ hS ⟨h_x0, h_x0r0, hB_h_x0r0, h_x0r0r0, hB_h_x0r0r0, h_x0r0r1, h_x0r0r2, hB_h_x0r0r2, ne_x0_x0r0, ne_x0_x0r0r0, ne_x0_x0r0r2, ne_x0r0_x0r0r0, ne_x0r0_x0r0r1, ne_x0r0_x0r0r2, ne_x0r0r0_x0r0r1, ne_x0r0r0_x0r0r2, ne_x0r0r1_x0r0r2⟩ hl.1 rfl (Nat.le_of_ble_eq_true rfl) dX0_areAngles_12 ⟨Nat.le_of_ble_eq_true rfl, Nat.le_of_ble_eq_true rfl⟩) hS (fun b H locs hp hS hz => ?_)
    obtain ⟨rfl, h_x0r0, h_x0r0r0, h_x0r0r2, hO⟩ := hp
    have h_x0 := h_x0.off hO (fun z => by rcases z with z | z | z <;> first | exact ne_x0_x0r0 z | exact ne_x0_x0r0r0 z | exact ne_x0_x0r0r2 z)
    have h_x0r0r1 := h_x0r0r1.off hO (fun z => by rcases z with z | z | z <;> first | exact (Ne.symm ne_x0r0_x0r0r1) z | exact (Ne.symm ne_x0r0r0_x0r0r1) z | exact ne_x0r0r1_x0r0r2 z)
    have hF := hF.fresh hO (fun a ha z => by
      rcases z with z | z | z
      · exact Or.inl z
      · exact Or.inr (Or.inl z)
      · exact Or.inr (Or.inr (z)))
    refine r_ifz_ne (tgt := 20) hx hb dX0_areAngles_15 (by decide) (fun c4 => ?_) (fun c4 => ?_)
    · have h := it_pos h (by rw [c4])
      refine lv_aload_n hx hb dX0_areAngles_20 rfl (lv_at hl 0 rfl) ?_
      refine lv_iconst (v := 0) hx hb dX0_areAngles_21 (by decide) ?_
      obtain ⟨o5, eo5, h⟩ := bind_step h
      refine r_cl (r_runV (rest := []) (As := [.int 0]) hC 1 (m_X0_its x0 x0r0 x0r0r0 x0r0r1 x0r0r2  o3.2.2.1 x0r0r1c o3.2.2.2 o3.2.1 x0r0f4 x0r0f5 x0r0f6 0 o5 eo5) q944 q946 qs10 q39 q947 (OA.recv hS h_x0 (C := RX0) rfl) hd_X0_its rfl ⟨Nat.le_of_ble_eq_true rfl, Nat.le_of_ble_eq_true rfl⟩ hS ⟨h_x0, h_x0r0, h_x0r0r0, h_x0r0r1, h_x0r0r2⟩ hl.1 rfl (Nat.le_of_ble_eq_true rfl) dX0_areAngles_22 ⟨Nat.le_of_ble_eq_true rfl, Nat.le_of_ble_eq_true rfl⟩) hS (fun b H locs hp hS hz => ?_)
      obtain ⟨eb_, hO⟩ := hp
      rw [eb_]
      have h_x0 := h_x0.ext hO
      have h_x0r0 := h_x0r0.ext hO
      have h_x0r0r0 := h_x0r0r0.ext hO
      have h_x0r0r1 := h_x0r0r1.ext hO
      have h_x0r0r2 := h_x0r0r2.ext hO
      have hF := hF.trans (hO.mono (fun _ _ z => z.elim))
      refine lv_lstore_n (lv' := [(3, .long o5), (0, .ref x0), (1, .int x1), (2, .int x2)]) hx hb dX0_areAngles_25 rfl hl (by decide) rfl (fun ls hl => ?_)
      refine lv_aload_n hx hb dX0_areAngles_26 rfl (lv_at hl 1 rfl) ?_
      refine lv_iconst (v := 1) hx hb dX0_areAngles_27 (by decide) ?_
      obtain ⟨o6, eo6, h⟩ := bind_step h
      refine r_cl (r_runV (rest := []) (As := [.int 1]) hC 1 (m_X0_its x0 x0r0 x0r0r0 x0r0r1 x0r0r2  o3.2.2.1 x0r0r1c o3.2.2.2 o3.2.1 x0r0f4 x0r0f5 x0r0f6 1 o6 eo6) q944 q946 qs10 q39 q947 (OA.recv hS h_x0 (C := RX0) rfl) hd_X0_its rfl ⟨Nat.le_of_ble_eq_true rfl, Nat.le_of_ble_eq_true rfl⟩ hS ⟨h_x0, h_x0r0, h_x0r0r0, h_x0r0r1, h_x0r0r2⟩ hl.1 rfl (Nat.le_of_ble_eq_true rfl) dX0_areAngles_28 ⟨Nat.le_of_ble_eq_true rfl, Nat.le_of_ble_eq_true rfl⟩) hS (fun b H locs hp hS hz => ?_)
      obtain ⟨eb_, hO⟩ := hp
      rw [eb_]
      have h_x0 := h_x0.ext hO
      have h_x0r0 := h_x0r0.ext hO
      have h_x0r0r0 := h_x0r0r0.ext hO
      have h_x0r0r1 := h_x0r0r1.ext hO
      have h_x0r0r2 := h_x0r0r2.ext hO
      have hF := hF.trans (hO.mono (fun _ _ z => z.elim))
      refine lv_lstore (lv' := [(5, .long o6), (3, .long o5), (0, .ref x0), (1, .int x1), (2, .int x2)]) hx hb dX0_areAngles_31 hl (by decide) rfl (fun ls hl => ?_)
      refine lv_aload_n hx hb dX0_areAngles_33 rfl (lv_at hl 2 rfl) ?_
      refine r_get hx hb hts hown hS h_x0 rfl in_X0 0 (by decide) q936 rfl (v := .ref x0r0) rfl dX0_areAngles_34 ?_
      refine lv_iconst (v := 2) hx hb dX0_areAngles_37 (by decide) ?_
      obtain ⟨o7, eo7, h⟩ := bind_step h
      refine r_cp (r_runV (rest := []) (As := [.int 2]) hC 1 (m_X1_house x0r0 x0r0r0 x0r0r1 x0r0r2  o3.2.2.1 x0r0r1c o3.2.2.2 o3.2.1 x0r0f4 x0r0f5 x0r0f6 2 o7 eo7) q1248 q1249 q1250 q46 q1251 (OA.recv hS h_x0r0.OA (C := RX1) rfl) hd_X1_house rfl ⟨Nat.le_of_ble_eq_true rfl, Nat.le_of_ble_eq_true rfl⟩ hS ⟨h_x0r0, h_x0r0r0, h_x0r0r1, h_x0r0r2⟩ hl.1 rfl (Nat.le_of_ble_eq_true rfl) dX0_areAngles_38 ⟨Nat.le_of_ble_eq_true rfl, Nat.le_of_ble_eq_true rfl⟩) ?_
      refine lv_istore (lv' := [(7, .int o7), (5, .long o6), (3, .long o5), (0, .ref x0), (1, .int x1), (2, .int x2)]) hx hb dX0_areAngles_41 hl (by decide) rfl (fun ls hl => ?_)
      refine lv_aload_n hx hb dX0_areAngles_43 rfl (lv_at hl 3 rfl) ?_
      refine r_get hx hb hts hown hS h_x0 rfl in_X0 0 (by decide) q936 rfl (v := .ref x0r0) rfl dX0_areAngles_44 ?_
      refine lv_iconst (v := 0) hx hb dX0_areAngles_47 (by decide) ?_
      refine lv_iconst (v := 2) hx hb dX0_areAngles_48 (by decide) ?_
      obtain ⟨o8, eo8, h⟩ := bind_step h
      refine r_ci (r_runV (rest := []) (As := [.int 0, .int 2]) hC 2 (m_X1_angleCopy x0r0 x0r0r0 x0r0r1 x0r0r2  o3.2.2.1 x0r0r1c o3.2.2.2 o3.2.1 x0r0f4 x0r0f5 x0r0f6 0 2 o8 eo8) q1514 q1515 q1516 q46 q1517 (OA.recv hS h_x0r0.OA (C := RX1) rfl) hd_X1_angleCopy rfl ⟨Nat.le_of_ble_eq_true rfl, Nat.le_of_ble_eq_true rfl⟩ hS ⟨h_x0r0, hB_h_x0r0, h_x0r0r0, hB_h_x0r0r0, h_x0r0r1, h_x0r0r2, hB_h_x0r0r2, ne_x0r0_x0r0r0, ne_x0r0_x0r0r1, ne_x0r0_x0r0r2, ne_x0r0r0_x0r0r1, ne_x0r0r0_x0r0r2, ne_x0r0r1_x0r0r2⟩ hl.1 rfl (Nat.le_of_ble_eq_true rfl) dX0_areAngles_49 ⟨Nat.le_of_ble_eq_true rfl, Nat.le_of_ble_eq_true rfl⟩) hS (fun b H locs hp hS hz => ?_)
      obtain ⟨rfl, h_x0r0, h_x0r0r0, h_x0r0r2, hO⟩ := hp
      have h_x0 := h_x0.off hO (fun z => by rcases z with z | z | z <;> first | exact ne_x0_x0r0 z | exact ne_x0_x0r0r0 z | exact ne_x0_x0r0r2 z)
      have h_x0r0r1 := h_x0r0r1.off hO (fun z => by rcases z with z | z | z <;> first | exact (Ne.symm ne_x0r0_x0r0r1) z | exact (Ne.symm ne_x0r0r0_x0r0r1) z | exact ne_x0r0r1_x0r0r2 z)
      have hF := hF.fresh hO (fun a ha z => by
        rcases z with z | z | z
        · exact Or.inl z
        · exact Or.inr (Or.inl z)
        · exact Or.inr (Or.inr (z)))
      refine lv_pop hx hb dX0_areAngles_52 rfl ?_
      refine lv_aload_n hx hb dX0_areAngles_53 rfl (lv_at hl 3 rfl) ?_
      refine r_get hx hb hts hown hS h_x0 rfl in_X0 0 (by decide) q936 rfl (v := .ref x0r0) rfl dX0_areAngles_54 ?_
      refine lv_iconst (v := 3) hx hb dX0_areAngles_57 (by decide) ?_
      refine lv_iconst (v := 1) hx hb dX0_areAngles_58 (by decide) ?_
      obtain ⟨o9, eo9, h⟩ := bind_step h
      refine r_ci (r_runV (rest := []) (As := [.int 3, .int 1]) hC 2 (m_X1_angleKnown x0r0 x0r0r0 x0r0r1 x0r0r2  o8.2.2.1 x0r0r1c o8.2.2.2 o8.2.1 x0r0f4 x0r0f5 x0r0f6 3 1 o9 eo9) q1471 q1472 q1473 q46 q1474 (OA.recv hS h_x0r0.OA (C := RX1) rfl) hd_X1_angleKnown rfl ⟨Nat.le_of_ble_eq_true rfl, Nat.le_of_ble_eq_true rfl⟩ hS ⟨h_x0r0, hB_h_x0r0, h_x0r0r0, hB_h_x0r0r0, h_x0r0r1, h_x0r0r2, hB_h_x0r0r2, ne_x0r0_x0r0r0, ne_x0r0_x0r0r1, ne_x0r0_x0r0r2, ne_x0r0r0_x0r0r1, ne_x0r0r0_x0r0r2, ne_x0r0r1_x0r0r2⟩ hl.1 rfl (Nat.le_of_ble_eq_true rfl) dX0_areAngles_59 ⟨Nat.le_of_ble_eq_true rfl, Nat.le_of_ble_eq_true rfl⟩) hS (fun b H locs hp hS hz => ?_)
      obtain ⟨rfl, h_x0r0, h_x0r0r0, h_x0r0r2, hO⟩ := hp
      have h_x0 := h_x0.off hO (fun z => by rcases z with z | z | z <;> first | exact ne_x0_x0r0 z | exact ne_x0_x0r0r0 z | exact ne_x0_x0r0r2 z)
      have h_x0r0r1 := h_x0r0r1.off hO (fun z => by rcases z with z | z | z <;> first | exact (Ne.symm ne_x0r0_x0r0r1) z | exact (Ne.symm ne_x0r0r0_x0r0r1) z | exact ne_x0r0r1_x0r0r2 z)
      have hF := hF.fresh hO (fun a ha z => by
        rcases z with z | z | z
        · exact Or.inl z
        · exact Or.inr (Or.inl z)
        · exact Or.inr (Or.inr (z)))
      refine lv_pop hx hb dX0_areAngles_62 rfl ?_
      refine lv_aload_n hx hb dX0_areAngles_63 rfl (lv_at hl 3 rfl) ?_
      refine r_get hx hb hts hown hS h_x0 rfl in_X0 0 (by decide) q936 rfl (v := .ref x0r0) rfl dX0_areAngles_64 ?_
      refine lv_iconst (v := 2) hx hb dX0_areAngles_67 (by decide) ?_
      obtain ⟨o10, eo10, h⟩ := bind_step h
      refine r_ci (r_runV (rest := []) (As := [.int 2]) hC 1 (m_X1_angleTwice x0r0 x0r0r0 x0r0r1 x0r0r2  o9.2.2.1 x0r0r1c o9.2.2.2 o9.2.1 x0r0f4 x0r0f5 x0r0f6 2 o10 eo10) q1411 q1412 q1413 q46 q1414 (OA.recv hS h_x0r0.OA (C := RX1) rfl) hd_X1_angleTwice rfl ⟨Nat.le_of_ble_eq_true rfl, Nat.le_of_ble_eq_true rfl⟩ hS ⟨h_x0r0, hB_h_x0r0, h_x0r0r0, hB_h_x0r0r0, h_x0r0r1, h_x0r0r2, hB_h_x0r0r2, ne_x0r0_x0r0r0, ne_x0r0_x0r0r1, ne_x0r0_x0r0r2, ne_x0r0r0_x0r0r1, ne_x0r0r0_x0r0r2, ne_x0r0r1_x0r0r2⟩ hl.1 rfl (Nat.le_of_ble_eq_true rfl) dX0_areAngles_68 ⟨Nat.le_of_ble_eq_true rfl, Nat.le_of_ble_eq_true rfl⟩) hS (fun b H locs hp hS hz => ?_)
      obtain ⟨rfl, h_x0r0, h_x0r0r0, h_x0r0r2, hO⟩ := hp
      have h_x0 := h_x0.off hO (fun z => by rcases z with z | z | z <;> first | exact ne_x0_x0r0 z | exact ne_x0_x0r0r0 z | exact ne_x0_x0r0r2 z)
      have h_x0r0r1 := h_x0r0r1.off hO (fun z => by rcases z with z | z | z <;> first | exact (Ne.symm ne_x0r0_x0r0r1) z | exact (Ne.symm ne_x0r0r0_x0r0r1) z | exact ne_x0r0r1_x0r0r2 z)
      have hF := hF.fresh hO (fun a ha z => by
        rcases z with z | z | z
        · exact Or.inl z
        · exact Or.inr (Or.inl z)
        · exact Or.inr (Or.inr (z)))
      refine lv_istore (lv' := [(8, .int o10.1), (7, .int o7), (5, .long o6), (3, .long o5), (0, .ref x0), (1, .int x1), (2, .int x2)]) hx hb dX0_areAngles_71 hl (by decide) rfl (fun ls hl => ?_)
      refine lv_aload_n hx hb dX0_areAngles_73 rfl (lv_at hl 4 rfl) ?_
      refine r_get hx hb hts hown hS h_x0 rfl in_X0 0 (by decide) q936 rfl (v := .ref x0r0) rfl dX0_areAngles_74 ?_
      refine lv_iconst (v := 0) hx hb dX0_areAngles_77 (by decide) ?_
      refine lv_iconst (v := 0) hx hb dX0_areAngles_78 (by decide) ?_
      refine lv_iconst (v := 3) hx hb dX0_areAngles_79 (by decide) ?_
      obtain ⟨o11, eo11, h⟩ := bind_step h
      refine r_ci (r_runV (rest := []) (As := [.int 0, .int 0, .int 3]) hC 3 (m_X1_angleSum x0r0 x0r0r0 x0r0r1 x0r0r2  o10.2.2.2.1 x0r0r1c o10.2.2.2.2 o10.2.1 x0r0f4 o10.2.2.1 x0r0f6 0 0 3 o11 eo11) q1362 q1363 q1364 q46 q1365 (OA.recv hS h_x0r0.OA (C := RX1) rfl) hd_X1_angleSum rfl ⟨Nat.le_of_ble_eq_true rfl, Nat.le_of_ble_eq_true rfl⟩ hS ⟨h_x0r0, hB_h_x0r0, h_x0r0r0, hB_h_x0r0r0, h_x0r0r1, h_x0r0r2, hB_h_x0r0r2, ne_x0r0_x0r0r0, ne_x0r0_x0r0r1, ne_x0r0_x0r0r2, ne_x0r0r0_x0r0r1, ne_x0r0r0_x0r0r2, ne_x0r0r1_x0r0r2⟩ hl.1 rfl (Nat.le_of_ble_eq_true rfl) dX0_areAngles_80 ⟨Nat.le_of_ble_eq_true rfl, Nat.le_of_ble_eq_true rfl⟩) hS (fun b H locs hp hS hz => ?_)
      obtain ⟨rfl, h_x0r0, h_x0r0r0, h_x0r0r2, hO⟩ := hp
      have h_x0 := h_x0.off hO (fun z => by rcases z with z | z | z <;> first | exact ne_x0_x0r0 z | exact ne_x0_x0r0r0 z | exact ne_x0_x0r0r2 z)
      have h_x0r0r1 := h_x0r0r1.off hO (fun z => by rcases z with z | z | z <;> first | exact (Ne.symm ne_x0r0_x0r0r1) z | exact (Ne.symm ne_x0r0r0_x0r0r1) z | exact ne_x0r0r1_x0r0r2 z)
      have hF := hF.fresh hO (fun a ha z => by
        rcases z with z | z | z
        · exact Or.inl z
        · exact Or.inr (Or.inl z)
        · exact Or.inr (Or.inr (z)))
      refine lv_istore (lv' := [(9, .int o11.1), (8, .int o10.1), (7, .int o7), (5, .long o6), (3, .long o5), (0, .ref x0), (1, .int x1), (2, .int x2)]) hx hb dX0_areAngles_83 hl (by decide) rfl (fun ls hl => ?_)
      refine lv_ldc2 hx hb (v := 2) hown (hts _ q1518) dX0_areAngles_85 ?_
      refine lv_lload_n hx hb dX0_areAngles_88 rfl (lv_at hl 4 rfl) ?_
      obtain ⟨v12, ev12, h⟩ := ltl_step h
      refine r_lmul hx hb ev12 dX0_areAngles_89 ?_
      obtain ⟨o13, eo13, h⟩ := bind_step h
      refine r_cp (r_runS (rest := []) (As := [.long v12]) hC 1 (m_X0_isIn   v12 o13 eo13) q1519 q1520 q39 q1521 hd_X0_isIn rfl ⟨Nat.le_of_ble_eq_true rfl, Nat.le_of_ble_eq_true rfl⟩ hS trivial hl.1 rfl (Nat.le_of_ble_eq_true rfl) dX0_areAngles_90 ⟨Nat.le_of_ble_eq_true rfl, Nat.le_of_ble_eq_true rfl⟩) ?_
      obtain ⟨K18, eK18, h⟩ := lt_step h
      have HK18 : ∀ (f14 : Nat → UInt64) (f15 : Nat → Int32) (v16 : Int32) (v17 : Bool) (h : K18 f14 f15 v16 v17 = some r) (H : Heap) (locs : List Loc) (hS : St D s H locs) (hF : Off (fun a => a = x0r0 ∨ a = x0r0r0 ∨ a = x0r0r2) s.heap H) (h_x0 : OA D 1 x0 [.ref x0r0] H) (h_x0r0 : ON D 0 x0r0 [.ref x0r0r0, .ref x0r0r1, .ref x0r0r2, .int v16, .int x0r0f4, .int o11.2.2.1, .int x0r0f6] H) (h_x0r0r0 : aD D x0r0r0 8 f14 H) (h_x0r0r1 : aD D x0r0r1 8 x0r0r1c H) (h_x0r0r2 : aZ D x0r0r2 8 f15 H) (ls : Array Slot) (hl : lv_has ls 19 [(0, .ref x0), (1, .int x1), (3, .long o5), (5, .long o6)]), W p l e R_X0_areAngles s m A below meth c H locs 3209 33470 Q (F0 m 222 ls [.int (bI v17)]) := by
        intro f14 f15 v16 v17 h H locs hS hF h_x0 h_x0r0 h_x0r0r0 h_x0r0r1 h_x0r0r2 ls hl
        subst eK18
        refine lv_istore (lv' := [(10, .int (bI v17)), (0, .ref x0), (1, .int x1), (3, .long o5), (5, .long o6)]) hx hb dX0_areAngles_222 hl (by decide) rfl (fun ls hl => ?_)
        refine lv_aload_n hx hb dX0_areAngles_224 rfl (lv_at hl 1 rfl) ?_
        refine r_get hx hb hts hown hS h_x0 rfl in_X0 0 (by decide) q936 rfl (v := .ref x0r0) rfl dX0_areAngles_225 ?_
        refine lv_iconst (v := 4) hx hb dX0_areAngles_228 (by decide) ?_
        refine lv_iconst (v := 1) hx hb dX0_areAngles_229 (by decide) ?_
        obtain ⟨o19, eo19, h⟩ := bind_step h
        refine r_ci (r_runV (rest := []) (As := [.int 4, .int 1]) hC 2 (m_X1_angleKnown x0r0 x0r0r0 x0r0r1 x0r0r2  f14 x0r0r1c f15 v16 x0r0f4 o11.2.2.1 x0r0f6 4 1 o19 eo19) q1471 q1472 q1473 q46 q1474 (OA.recv hS h_x0r0.OA (C := RX1) rfl) hd_X1_angleKnown rfl ⟨Nat.le_of_ble_eq_true rfl, Nat.le_of_ble_eq_true rfl⟩ hS ⟨h_x0r0, hB_h_x0r0, h_x0r0r0, hB_h_x0r0r0, h_x0r0r1, h_x0r0r2, hB_h_x0r0r2, ne_x0r0_x0r0r0, ne_x0r0_x0r0r1, ne_x0r0_x0r0r2, ne_x0r0r0_x0r0r1, ne_x0r0r0_x0r0r2, ne_x0r0r1_x0r0r2⟩ hl.1 rfl (Nat.le_of_ble_eq_true rfl) dX0_areAngles_230 ⟨Nat.le_of_ble_eq_true rfl, Nat.le_of_ble_eq_true rfl⟩) hS (fun b H locs hp hS hz => ?_)
        obtain ⟨rfl, h_x0r0, h_x0r0r0, h_x0r0r2, hO⟩ := hp
        have h_x0 := h_x0.off hO (fun z => by rcases z with z | z | z <;> first | exact ne_x0_x0r0 z | exact ne_x0_x0r0r0 z | exact ne_x0_x0r0r2 z)
        have h_x0r0r1 := h_x0r0r1.off hO (fun z => by rcases z with z | z | z <;> first | exact (Ne.symm ne_x0r0_x0r0r1) z | exact (Ne.symm ne_x0r0r0_x0r0r1) z | exact ne_x0r0r1_x0r0r2 z)
        have hF := hF.fresh hO (fun a ha z => by
          rcases z with z | z | z
          · exact Or.inl z
          · exact Or.inr (Or.inl z)
          · exact Or.inr (Or.inr (z)))
        refine lv_pop hx hb dX0_areAngles_233 rfl ?_
        refine lv_aload_n hx hb dX0_areAngles_234 rfl (lv_at hl 1 rfl) ?_
        refine r_get hx hb hts hown hS h_x0 rfl in_X0 0 (by decide) q936 rfl (v := .ref x0r0) rfl dX0_areAngles_235 ?_
        refine lv_iconst (v := 5) hx hb dX0_areAngles_238 (by decide) ?_
        refine lv_iconst (v := 1) hx hb dX0_areAngles_239 (by decide) ?_
        obtain ⟨o20, eo20, h⟩ := bind_step h
        refine r_ci (r_runV (rest := []) (As := [.int 5, .int 1]) hC 2 (m_X1_angleKnown x0r0 x0r0r0 x0r0r1 x0r0r2  o19.2.2.1 x0r0r1c o19.2.2.2 o19.2.1 x0r0f4 o11.2.2.1 x0r0f6 5 1 o20 eo20) q1471 q1472 q1473 q46 q1474 (OA.recv hS h_x0r0.OA (C := RX1) rfl) hd_X1_angleKnown rfl ⟨Nat.le_of_ble_eq_true rfl, Nat.le_of_ble_eq_true rfl⟩ hS ⟨h_x0r0, hB_h_x0r0, h_x0r0r0, hB_h_x0r0r0, h_x0r0r1, h_x0r0r2, hB_h_x0r0r2, ne_x0r0_x0r0r0, ne_x0r0_x0r0r1, ne_x0r0_x0r0r2, ne_x0r0r0_x0r0r1, ne_x0r0r0_x0r0r2, ne_x0r0r1_x0r0r2⟩ hl.1 rfl (Nat.le_of_ble_eq_true rfl) dX0_areAngles_240 ⟨Nat.le_of_ble_eq_true rfl, Nat.le_of_ble_eq_true rfl⟩) hS (fun b H locs hp hS hz => ?_)
        obtain ⟨rfl, h_x0r0, h_x0r0r0, h_x0r0r2, hO⟩ := hp
        have h_x0 := h_x0.off hO (fun z => by rcases z with z | z | z <;> first | exact ne_x0_x0r0 z | exact ne_x0_x0r0r0 z | exact ne_x0_x0r0r2 z)
        have h_x0r0r1 := h_x0r0r1.off hO (fun z => by rcases z with z | z | z <;> first | exact (Ne.symm ne_x0r0_x0r0r1) z | exact (Ne.symm ne_x0r0r0_x0r0r1) z | exact ne_x0r0r1_x0r0r2 z)
        have hF := hF.fresh hO (fun a ha z => by
          rcases z with z | z | z
          · exact Or.inl z
          · exact Or.inr (Or.inl z)
          · exact Or.inr (Or.inr (z)))
        refine lv_pop hx hb dX0_areAngles_243 rfl ?_
        refine lv_aload_n hx hb dX0_areAngles_244 rfl (lv_at hl 1 rfl) ?_
        refine r_get hx hb hts hown hS h_x0 rfl in_X0 0 (by decide) q936 rfl (v := .ref x0r0) rfl dX0_areAngles_245 ?_
        refine lv_iconst (v := 2) hx hb dX0_areAngles_248 (by decide) ?_
        obtain ⟨o21, eo21, h⟩ := bind_step h
        refine r_cp (r_runV (rest := []) (As := [.int 2]) hC 1 (m_X1_house x0r0 x0r0r0 x0r0r1 x0r0r2  o20.2.2.1 x0r0r1c o20.2.2.2 o20.2.1 x0r0f4 o11.2.2.1 x0r0f6 2 o21 eo21) q1248 q1249 q1250 q46 q1251 (OA.recv hS h_x0r0.OA (C := RX1) rfl) hd_X1_house rfl ⟨Nat.le_of_ble_eq_true rfl, Nat.le_of_ble_eq_true rfl⟩ hS ⟨h_x0r0, h_x0r0r0, h_x0r0r1, h_x0r0r2⟩ hl.1 rfl (Nat.le_of_ble_eq_true rfl) dX0_areAngles_249 ⟨Nat.le_of_ble_eq_true rfl, Nat.le_of_ble_eq_true rfl⟩) ?_
        refine lv_istore (lv' := [(7, .int o21), (10, .int (bI v17)), (0, .ref x0), (1, .int x1), (3, .long o5), (5, .long o6)]) hx hb dX0_areAngles_252 hl (by decide) rfl (fun ls hl => ?_)
        refine lv_aload_n hx hb dX0_areAngles_254 rfl (lv_at hl 2 rfl) ?_
        refine r_get hx hb hts hown hS h_x0 rfl in_X0 0 (by decide) q936 rfl (v := .ref x0r0) rfl dX0_areAngles_255 ?_
        refine lv_iconst (v := 0) hx hb dX0_areAngles_258 (by decide) ?_
        refine lv_iconst (v := 1) hx hb dX0_areAngles_259 (by decide) ?_
        refine lv_iconst (v := 4) hx hb dX0_areAngles_260 (by decide) ?_
        obtain ⟨o22, eo22, h⟩ := bind_step h
        refine r_ci (r_runV (rest := []) (As := [.int 0, .int 1, .int 4]) hC 3 (m_X1_angleSum x0r0 x0r0r0 x0r0r1 x0r0r2  o20.2.2.1 x0r0r1c o20.2.2.2 o20.2.1 x0r0f4 o11.2.2.1 x0r0f6 0 1 4 o22 eo22) q1362 q1363 q1364 q46 q1365 (OA.recv hS h_x0r0.OA (C := RX1) rfl) hd_X1_angleSum rfl ⟨Nat.le_of_ble_eq_true rfl, Nat.le_of_ble_eq_true rfl⟩ hS ⟨h_x0r0, hB_h_x0r0, h_x0r0r0, hB_h_x0r0r0, h_x0r0r1, h_x0r0r2, hB_h_x0r0r2, ne_x0r0_x0r0r0, ne_x0r0_x0r0r1, ne_x0r0_x0r0r2, ne_x0r0r0_x0r0r1, ne_x0r0r0_x0r0r2, ne_x0r0r1_x0r0r2⟩ hl.1 rfl (Nat.le_of_ble_eq_true rfl) dX0_areAngles_261 ⟨Nat.le_of_ble_eq_true rfl, Nat.le_of_ble_eq_true rfl⟩) hS (fun b H locs hp hS hz => ?_)
        obtain ⟨rfl, h_x0r0, h_x0r0r0, h_x0r0r2, hO⟩ := hp
        have h_x0 := h_x0.off hO (fun z => by rcases z with z | z | z <;> first | exact ne_x0_x0r0 z | exact ne_x0_x0r0r0 z | exact ne_x0_x0r0r2 z)
        have h_x0r0r1 := h_x0r0r1.off hO (fun z => by rcases z with z | z | z <;> first | exact (Ne.symm ne_x0r0_x0r0r1) z | exact (Ne.symm ne_x0r0r0_x0r0r1) z | exact ne_x0r0r1_x0r0r2 z)
        have hF := hF.fresh hO (fun a ha z => by
          rcases z with z | z | z
          · exact Or.inl z
          · exact Or.inr (Or.inl z)
          · exact Or.inr (Or.inr (z)))
        refine lv_istore (lv' := [(11, .int o22.1), (7, .int o21), (10, .int (bI v17)), (0, .ref x0), (1, .int x1), (3, .long o5), (5, .long o6)]) hx hb dX0_areAngles_264 hl (by decide) rfl (fun ls hl => ?_)
        refine lv_aload_n hx hb dX0_areAngles_266 rfl (lv_at hl 3 rfl) ?_
        refine r_get hx hb hts hown hS h_x0 rfl in_X0 0 (by decide) q936 rfl (v := .ref x0r0) rfl dX0_areAngles_267 ?_
        refine lv_iconst (v := 1) hx hb dX0_areAngles_270 (by decide) ?_
        refine lv_iconst (v := 0) hx hb dX0_areAngles_271 (by decide) ?_
        refine lv_iconst (v := 5) hx hb dX0_areAngles_272 (by decide) ?_
        obtain ⟨o23, eo23, h⟩ := bind_step h
        refine r_ci (r_runV (rest := []) (As := [.int 1, .int 0, .int 5]) hC 3 (m_X1_angleSum x0r0 x0r0r0 x0r0r1 x0r0r2  o22.2.2.2.1 x0r0r1c o22.2.2.2.2 o22.2.1 x0r0f4 o22.2.2.1 x0r0f6 1 0 5 o23 eo23) q1362 q1363 q1364 q46 q1365 (OA.recv hS h_x0r0.OA (C := RX1) rfl) hd_X1_angleSum rfl ⟨Nat.le_of_ble_eq_true rfl, Nat.le_of_ble_eq_true rfl⟩ hS ⟨h_x0r0, hB_h_x0r0, h_x0r0r0, hB_h_x0r0r0, h_x0r0r1, h_x0r0r2, hB_h_x0r0r2, ne_x0r0_x0r0r0, ne_x0r0_x0r0r1, ne_x0r0_x0r0r2, ne_x0r0r0_x0r0r1, ne_x0r0r0_x0r0r2, ne_x0r0r1_x0r0r2⟩ hl.1 rfl (Nat.le_of_ble_eq_true rfl) dX0_areAngles_273 ⟨Nat.le_of_ble_eq_true rfl, Nat.le_of_ble_eq_true rfl⟩) hS (fun b H locs hp hS hz => ?_)
        obtain ⟨rfl, h_x0r0, h_x0r0r0, h_x0r0r2, hO⟩ := hp
        have h_x0 := h_x0.off hO (fun z => by rcases z with z | z | z <;> first | exact ne_x0_x0r0 z | exact ne_x0_x0r0r0 z | exact ne_x0_x0r0r2 z)
        have h_x0r0r1 := h_x0r0r1.off hO (fun z => by rcases z with z | z | z <;> first | exact (Ne.symm ne_x0r0_x0r0r1) z | exact (Ne.symm ne_x0r0r0_x0r0r1) z | exact ne_x0r0r1_x0r0r2 z)
        have hF := hF.fresh hO (fun a ha z => by
          rcases z with z | z | z
          · exact Or.inl z
          · exact Or.inr (Or.inl z)
          · exact Or.inr (Or.inr (z)))
        refine lv_istore (lv' := [(12, .int o23.1), (11, .int o22.1), (7, .int o21), (10, .int (bI v17)), (0, .ref x0), (1, .int x1), (3, .long o5), (5, .long o6)]) hx hb dX0_areAngles_276 hl (by decide) rfl (fun ls hl => ?_)
        refine lv_lload_n hx hb dX0_areAngles_278 rfl (lv_at hl 6 rfl) ?_
        refine lv_lload hx hb dX0_areAngles_279 (lv_at hl 7 rfl) ?_
        obtain ⟨v24, ev24, h⟩ := ltl_step h
        refine r_ladd hx hb ev24 dX0_areAngles_281 ?_
        obtain ⟨o25, eo25, h⟩ := bind_step h
        refine r_cp (r_runS (rest := []) (As := [.long v24]) hC 1 (m_X0_isIn   v24 o25 eo25) q1519 q1520 q39 q1521 hd_X0_isIn rfl ⟨Nat.le_of_ble_eq_true rfl, Nat.le_of_ble_eq_true rfl⟩ hS trivial hl.1 rfl (Nat.le_of_ble_eq_true rfl) dX0_areAngles_282 ⟨Nat.le_of_ble_eq_true rfl, Nat.le_of_ble_eq_true rfl⟩) ?_
        obtain ⟨K31, eK31, h⟩ := lt_step h
        have HK31 : ∀ (f26 : Nat → UInt64) (f27 : Nat → Int32) (v28 : Int32) (v29 : Int32) (v30 : Bool) (h : K31 f26 f27 v28 v29 v30 = some r) (H : Heap) (locs : List Loc) (hS : St D s H locs) (hF : Off (fun a => a = x0r0 ∨ a = x0r0r0 ∨ a = x0r0r2) s.heap H) (h_x0 : OA D 1 x0 [.ref x0r0] H) (h_x0r0 : ON D 0 x0r0 [.ref x0r0r0, .ref x0r0r1, .ref x0r0r2, .int v28, .int x0r0f4, .int v29, .int x0r0f6] H) (h_x0r0r0 : aD D x0r0r0 8 f26 H) (h_x0r0r1 : aD D x0r0r1 8 x0r0r1c H) (h_x0r0r2 : aZ D x0r0r2 8 f27 H) (ls : Array Slot) (hl : lv_has ls 19 [(0, .ref x0), (1, .int x1), (3, .long o5), (5, .long o6), (10, .int (bI v30))]), W p l e R_X0_areAngles s m A below meth c H locs 5386 55162 Q (F0 m 486 ls []) := by
          intro f26 f27 v28 v29 v30 h H locs hS hF h_x0 h_x0r0 h_x0r0r0 h_x0r0r1 h_x0r0r2 ls hl
          subst eK31
          refine lv_aload_n hx hb dX0_areAngles_486 rfl (lv_at hl 0 rfl) ?_
          refine r_get hx hb hts hown hS h_x0 rfl in_X0 0 (by decide) q936 rfl (v := .ref x0r0) rfl dX0_areAngles_487 ?_
          refine lv_iconst (v := 0) hx hb dX0_areAngles_490 (by decide) ?_
          refine lv_bipush (v := 6) hx hb dX0_areAngles_491 (by decide) ?_
          obtain ⟨o32, eo32, h⟩ := bind_step h
          refine r_ci (r_runV (rest := []) (As := [.int 0, .int 6]) hC 2 (m_X1_angleCopy x0r0 x0r0r0 x0r0r1 x0r0r2  f26 x0r0r1c f27 v28 x0r0f4 v29 x0r0f6 0 6 o32 eo32) q1514 q1515 q1516 q46 q1517 (OA.recv hS h_x0r0.OA (C := RX1) rfl) hd_X1_angleCopy rfl ⟨Nat.le_of_ble_eq_true rfl, Nat.le_of_ble_eq_true rfl⟩ hS ⟨h_x0r0, hB_h_x0r0, h_x0r0r0, hB_h_x0r0r0, h_x0r0r1, h_x0r0r2, hB_h_x0r0r2, ne_x0r0_x0r0r0, ne_x0r0_x0r0r1, ne_x0r0_x0r0r2, ne_x0r0r0_x0r0r1, ne_x0r0r0_x0r0r2, ne_x0r0r1_x0r0r2⟩ hl.1 rfl (Nat.le_of_ble_eq_true rfl) dX0_areAngles_493 ⟨Nat.le_of_ble_eq_true rfl, Nat.le_of_ble_eq_true rfl⟩) hS (fun b H locs hp hS hz => ?_)
          obtain ⟨rfl, h_x0r0, h_x0r0r0, h_x0r0r2, hO⟩ := hp
          have h_x0 := h_x0.off hO (fun z => by rcases z with z | z | z <;> first | exact ne_x0_x0r0 z | exact ne_x0_x0r0r0 z | exact ne_x0_x0r0r2 z)
          have h_x0r0r1 := h_x0r0r1.off hO (fun z => by rcases z with z | z | z <;> first | exact (Ne.symm ne_x0r0_x0r0r1) z | exact (Ne.symm ne_x0r0r0_x0r0r1) z | exact ne_x0r0r1_x0r0r2 z)
          have hF := hF.fresh hO (fun a ha z => by
            rcases z with z | z | z
            · exact Or.inl z
            · exact Or.inr (Or.inl z)
            · exact Or.inr (Or.inr (z)))
          refine lv_pop hx hb dX0_areAngles_496 rfl ?_
          refine lv_aload_n hx hb dX0_areAngles_497 rfl (lv_at hl 0 rfl) ?_
          refine r_get hx hb hts hown hS h_x0 rfl in_X0 0 (by decide) q936 rfl (v := .ref x0r0) rfl dX0_areAngles_498 ?_
          refine lv_iconst (v := 2) hx hb dX0_areAngles_501 (by decide) ?_
          obtain ⟨o33, eo33, h⟩ := bind_step h
          refine r_cp (r_runV (rest := []) (As := [.int 2]) hC 1 (m_X1_house x0r0 x0r0r0 x0r0r1 x0r0r2  o32.2.2.1 x0r0r1c o32.2.2.2 o32.2.1 x0r0f4 v29 x0r0f6 2 o33 eo33) q1248 q1249 q1250 q46 q1251 (OA.recv hS h_x0r0.OA (C := RX1) rfl) hd_X1_house rfl ⟨Nat.le_of_ble_eq_true rfl, Nat.le_of_ble_eq_true rfl⟩ hS ⟨h_x0r0, h_x0r0r0, h_x0r0r1, h_x0r0r2⟩ hl.1 rfl (Nat.le_of_ble_eq_true rfl) dX0_areAngles_502 ⟨Nat.le_of_ble_eq_true rfl, Nat.le_of_ble_eq_true rfl⟩) ?_
          refine lv_istore (lv' := [(7, .int o33), (0, .ref x0), (1, .int x1), (3, .long o5), (5, .long o6), (10, .int (bI v30))]) hx hb dX0_areAngles_505 hl (by decide) rfl (fun ls hl => ?_)
          refine lv_iload_n hx hb dX0_areAngles_507 rfl (lv_at hl 2 rfl) ?_
          refine lv_bipush (v := 16) hx hb dX0_areAngles_508 (by decide) ?_
          obtain ⟨v34, ev34, h⟩ := lti_step h
          refine r_iand hx hb ev34 dX0_areAngles_510 ?_
          obtain ⟨K36, eK36, h⟩ := lt_step h
          have HK36 : ∀ (v35 : Bool) (h : K36 v35 = some r) (H : Heap) (locs : List Loc) (hS : St D s H locs) (hF : Off (fun a => a = x0r0 ∨ a = x0r0r0 ∨ a = x0r0r2) s.heap H) (h_x0 : OA D 1 x0 [.ref x0r0] H) (h_x0r0 : ON D 0 x0r0 [.ref x0r0r0, .ref x0r0r1, .ref x0r0r2, .int o32.2.1, .int x0r0f4, .int v29, .int x0r0f6] H) (h_x0r0r0 : aD D x0r0r0 8 o32.2.2.1 H) (h_x0r0r1 : aD D x0r0r1 8 x0r0r1c H) (h_x0r0r2 : aZ D x0r0r2 8 o32.2.2.2 H) (ls : Array Slot) (hl : lv_has ls 19 [(0, .ref x0), (3, .long o5), (5, .long o6), (7, .int o33), (10, .int (bI v30))]), W p l e R_X0_areAngles s m A below meth c H locs 5654 57776 Q (F0 m 519 ls [.int (bI v35)]) := by
            intro v35 h H locs hS hF h_x0 h_x0r0 h_x0r0r0 h_x0r0r1 h_x0r0r2 ls hl
            subst eK36
            refine lv_istore (lv' := [(13, .int (bI v35)), (0, .ref x0), (3, .long o5), (5, .long o6), (7, .int o33), (10, .int (bI v30))]) hx hb dX0_areAngles_519 hl (by decide) rfl (fun ls hl => ?_)
            refine lv_aload_n hx hb dX0_areAngles_521 rfl (lv_at hl 1 rfl) ?_
            refine r_get hx hb hts hown hS h_x0 rfl in_X0 0 (by decide) q936 rfl (v := .ref x0r0) rfl dX0_areAngles_522 ?_
            refine lv_bipush (v := 6) hx hb dX0_areAngles_525 (by decide) ?_
            refine lv_iload hx hb dX0_areAngles_527 (lv_at hl 0 rfl) ?_
            obtain ⟨o37, eo37, h⟩ := bind_step h
            refine r_ci (r_runV (rest := []) (As := [.int 6, .int (bI v35)]) hC 2 (m_X1_angleStep x0r0 x0r0r0 x0r0r1 x0r0r2  o32.2.2.1 x0r0r1c o32.2.2.2 o32.2.1 x0r0f4 v29 x0r0f6 6 v35 o37 eo37) q1532 q1533 q1534 q46 q1535 (OA.recv hS h_x0r0.OA (C := RX1) rfl) hd_X1_angleStep rfl ⟨Nat.le_of_ble_eq_true rfl, Nat.le_of_ble_eq_true rfl⟩ hS ⟨h_x0r0, hB_h_x0r0, h_x0r0r0, hB_h_x0r0r0, h_x0r0r1, h_x0r0r2, hB_h_x0r0r2, ne_x0r0_x0r0r0, ne_x0r0_x0r0r1, ne_x0r0_x0r0r2, ne_x0r0r0_x0r0r1, ne_x0r0r0_x0r0r2, ne_x0r0r1_x0r0r2⟩ hl.1 rfl (Nat.le_of_ble_eq_true rfl) dX0_areAngles_529 ⟨Nat.le_of_ble_eq_true rfl, Nat.le_of_ble_eq_true rfl⟩) hS (fun b H locs hp hS hz => ?_)
            obtain ⟨rfl, h_x0r0, h_x0r0r0, h_x0r0r2, hO⟩ := hp
            have h_x0 := h_x0.off hO (fun z => by rcases z with z | z | z <;> first | exact ne_x0_x0r0 z | exact ne_x0_x0r0r0 z | exact ne_x0_x0r0r2 z)
            have h_x0r0r1 := h_x0r0r1.off hO (fun z => by rcases z with z | z | z <;> first | exact (Ne.symm ne_x0r0_x0r0r1) z | exact (Ne.symm ne_x0r0r0_x0r0r1) z | exact ne_x0r0r1_x0r0r2 z)
            have hF := hF.fresh hO (fun a ha z => by
              rcases z with z | z | z
              · exact Or.inl z
              · exact Or.inr (Or.inl z)
              · exact Or.inr (Or.inr (z)))
            refine lv_istore (lv' := [(14, .int o37.1), (13, .int (bI v35)), (0, .ref x0), (3, .long o5), (5, .long o6), (7, .int o33), (10, .int (bI v30))]) hx hb dX0_areAngles_532 hl (by decide) rfl (fun ls hl => ?_)
            refine lv_lload_n hx hb dX0_areAngles_534 rfl (lv_at hl 3 rfl) ?_
            refine lv_iload hx hb dX0_areAngles_535 (lv_at hl 1 rfl) ?_
            obtain ⟨K39, eK39, h⟩ := lt_step h
            have HK39 : ∀ (v38 : Int32) (h : K39 v38 = some r) (H : Heap) (locs : List Loc) (hS : St D s H locs) (hF : Off (fun a => a = x0r0 ∨ a = x0r0r0 ∨ a = x0r0r2) s.heap H) (h_x0 : OA D 1 x0 [.ref x0r0] H) (h_x0r0 : ON D 0 x0r0 [.ref x0r0r0, .ref x0r0r1, .ref x0r0r2, .int o37.2.1, .int x0r0f4, .int o37.2.2.1, .int x0r0f6] H) (h_x0r0r0 : aD D x0r0r0 8 o37.2.2.2.1 H) (h_x0r0r1 : aD D x0r0r1 8 x0r0r1c H) (h_x0r0r2 : aZ D x0r0r2 8 o37.2.2.2.2 H) (ls : Array Slot) (hl : lv_has ls 19 [(0, .ref x0), (3, .long o5), (5, .long o6), (7, .int o33), (10, .int (bI v30)), (13, .int (bI v35)), (14, .int o37.1)]), W p l e R_X0_areAngles s m A below meth c H locs 5922 60390 Q (F0 m 545 ls [.int v38, .long o5]) := by
              intro v38 h H locs hS hF h_x0 h_x0r0 h_x0r0r0 h_x0r0r1 h_x0r0r2 ls hl
              subst eK39
              obtain ⟨v40, ev40, h⟩ := ltl_step h
              refine r_i2l hx hb ev40 dX0_areAngles_545 ?_
              obtain ⟨v41, ev41, h⟩ := ltl_step h
              refine r_ladd hx hb ev41 dX0_areAngles_546 ?_
              refine lv_lstore (lv' := [(15, .long v41), (0, .ref x0), (3, .long o5), (5, .long o6), (7, .int o33), (10, .int (bI v30)), (13, .int (bI v35)), (14, .int o37.1)]) hx hb dX0_areAngles_547 hl (by decide) rfl (fun ls hl => ?_)
              refine lv_iload hx hb dX0_areAngles_549 (lv_at hl 5 rfl) ?_
              obtain ⟨K47, eK47, h⟩ := lt_step h
              have HK47 : ∀ (f42 : Nat → UInt64) (f43 : Nat → Int32) (v44 : Int32) (v45 : Int32) (v46 : Bool) (h : K47 f42 f43 v44 v45 v46 = some r) (H : Heap) (locs : List Loc) (hS : St D s H locs) (hF : Off (fun a => a = x0r0 ∨ a = x0r0r0 ∨ a = x0r0r2) s.heap H) (h_x0 : OA D 1 x0 [.ref x0r0] H) (h_x0r0 : ON D 0 x0r0 [.ref x0r0r0, .ref x0r0r1, .ref x0r0r2, .int v44, .int x0r0f4, .int v45, .int x0r0f6] H) (h_x0r0r0 : aD D x0r0r0 8 f42 H) (h_x0r0r1 : aD D x0r0r1 8 x0r0r1c H) (h_x0r0r2 : aZ D x0r0r2 8 f43 H) (ls : Array Slot) (hl : lv_has ls 19 [(0, .ref x0), (3, .long o5), (5, .long o6)]), W p l e R_X0_areAngles s m A below meth c H locs 6214 63526 Q (F0 m 694 ls [.int (bI v46)]) := by
                intro f42 f43 v44 v45 v46 h H locs hS hF h_x0 h_x0r0 h_x0r0r0 h_x0r0r1 h_x0r0r2 ls hl
                subst eK47
                refine lv_istore (lv' := [(10, .int (bI v46)), (0, .ref x0), (3, .long o5), (5, .long o6)]) hx hb dX0_areAngles_694 hl (by decide) rfl (fun ls hl => ?_)
                refine lv_aload_n hx hb dX0_areAngles_696 rfl (lv_at hl 1 rfl) ?_
                refine r_get hx hb hts hown hS h_x0 rfl in_X0 0 (by decide) q936 rfl (v := .ref x0r0) rfl dX0_areAngles_697 ?_
                refine lv_iconst (v := 0) hx hb dX0_areAngles_700 (by decide) ?_
                refine lv_bipush (v := 7) hx hb dX0_areAngles_701 (by decide) ?_
                obtain ⟨o48, eo48, h⟩ := bind_step h
                refine r_ci (r_runV (rest := []) (As := [.int 0, .int 7]) hC 2 (m_X1_angleCopy x0r0 x0r0r0 x0r0r1 x0r0r2  f42 x0r0r1c f43 v44 x0r0f4 v45 x0r0f6 0 7 o48 eo48) q1514 q1515 q1516 q46 q1517 (OA.recv hS h_x0r0.OA (C := RX1) rfl) hd_X1_angleCopy rfl ⟨Nat.le_of_ble_eq_true rfl, Nat.le_of_ble_eq_true rfl⟩ hS ⟨h_x0r0, hB_h_x0r0, h_x0r0r0, hB_h_x0r0r0, h_x0r0r1, h_x0r0r2, hB_h_x0r0r2, ne_x0r0_x0r0r0, ne_x0r0_x0r0r1, ne_x0r0_x0r0r2, ne_x0r0r0_x0r0r1, ne_x0r0r0_x0r0r2, ne_x0r0r1_x0r0r2⟩ hl.1 rfl (Nat.le_of_ble_eq_true rfl) dX0_areAngles_703 ⟨Nat.le_of_ble_eq_true rfl, Nat.le_of_ble_eq_true rfl⟩) hS (fun b H locs hp hS hz => ?_)
                obtain ⟨rfl, h_x0r0, h_x0r0r0, h_x0r0r2, hO⟩ := hp
                have h_x0 := h_x0.off hO (fun z => by rcases z with z | z | z <;> first | exact ne_x0_x0r0 z | exact ne_x0_x0r0r0 z | exact ne_x0_x0r0r2 z)
                have h_x0r0r1 := h_x0r0r1.off hO (fun z => by rcases z with z | z | z <;> first | exact (Ne.symm ne_x0r0_x0r0r1) z | exact (Ne.symm ne_x0r0r0_x0r0r1) z | exact ne_x0r0r1_x0r0r2 z)
                have hF := hF.fresh hO (fun a ha z => by
                  rcases z with z | z | z
                  · exact Or.inl z
                  · exact Or.inr (Or.inl z)
                  · exact Or.inr (Or.inr (z)))
                refine lv_pop hx hb dX0_areAngles_706 rfl ?_
                refine lv_aload_n hx hb dX0_areAngles_707 rfl (lv_at hl 1 rfl) ?_
                refine r_get hx hb hts hown hS h_x0 rfl in_X0 0 (by decide) q936 rfl (v := .ref x0r0) rfl dX0_areAngles_708 ?_
                refine lv_bipush (v := 7) hx hb dX0_areAngles_711 (by decide) ?_
                obtain ⟨o49, eo49, h⟩ := bind_step h
                refine r_ci (r_runV (rest := []) (As := [.int 7]) hC 1 (m_X1_angleTurn x0r0 x0r0r0 x0r0r1 x0r0r2  o48.2.2.1 x0r0r1c o48.2.2.2 o48.2.1 x0r0f4 v45 x0r0f6 7 o49 eo49) q1528 q1529 q1530 q46 q1531 (OA.recv hS h_x0r0.OA (C := RX1) rfl) hd_X1_angleTurn rfl ⟨Nat.le_of_ble_eq_true rfl, Nat.le_of_ble_eq_true rfl⟩ hS ⟨h_x0r0, hB_h_x0r0, h_x0r0r0, hB_h_x0r0r0, h_x0r0r1, h_x0r0r2, hB_h_x0r0r2, ne_x0r0_x0r0r0, ne_x0r0_x0r0r1, ne_x0r0_x0r0r2, ne_x0r0r0_x0r0r1, ne_x0r0r0_x0r0r2, ne_x0r0r1_x0r0r2⟩ hl.1 rfl (Nat.le_of_ble_eq_true rfl) dX0_areAngles_713 ⟨Nat.le_of_ble_eq_true rfl, Nat.le_of_ble_eq_true rfl⟩) hS (fun b H locs hp hS hz => ?_)
                obtain ⟨rfl, h_x0r0, h_x0r0r0, h_x0r0r2, hO⟩ := hp
                have h_x0 := h_x0.off hO (fun z => by rcases z with z | z | z <;> first | exact ne_x0_x0r0 z | exact ne_x0_x0r0r0 z | exact ne_x0_x0r0r2 z)
                have h_x0r0r1 := h_x0r0r1.off hO (fun z => by rcases z with z | z | z <;> first | exact (Ne.symm ne_x0r0_x0r0r1) z | exact (Ne.symm ne_x0r0r0_x0r0r1) z | exact ne_x0r0r1_x0r0r2 z)
                have hF := hF.fresh hO (fun a ha z => by
                  rcases z with z | z | z
                  · exact Or.inl z
                  · exact Or.inr (Or.inl z)
                  · exact Or.inr (Or.inr (z)))
                refine lv_istore (lv' := [(17, .int o49.1), (10, .int (bI v46)), (0, .ref x0), (3, .long o5), (5, .long o6)]) hx hb dX0_areAngles_716 hl (by decide) rfl (fun ls hl => ?_)
                refine lv_aload_n hx hb dX0_areAngles_718 rfl (lv_at hl 2 rfl) ?_
                refine r_get hx hb hts hown hS h_x0 rfl in_X0 0 (by decide) q936 rfl (v := .ref x0r0) rfl dX0_areAngles_719 ?_
                refine lv_bipush (v := 7) hx hb dX0_areAngles_722 (by decide) ?_
                refine lv_iconst (v := 0) hx hb dX0_areAngles_724 (by decide) ?_
                refine lv_iconst (v := 1) hx hb dX0_areAngles_725 (by decide) ?_
                obtain ⟨o50, eo50, h⟩ := bind_step h
                refine r_ci (r_runV (rest := []) (As := [.int 7, .int 0, .int 1]) hC 3 (m_X1_angleOrder x0r0 x0r0r0 x0r0r1 x0r0r2  o49.2.2.1 x0r0r1c o49.2.2.2 o49.2.1 x0r0f4 v45 x0r0f6 7 0 1 o50 eo50) q1536 q1537 q1538 q46 q1539 (OA.recv hS h_x0r0.OA (C := RX1) rfl) hd_X1_angleOrder rfl ⟨Nat.le_of_ble_eq_true rfl, Nat.le_of_ble_eq_true rfl⟩ hS ⟨h_x0r0, h_x0r0r0, h_x0r0r1, h_x0r0r2⟩ hl.1 rfl (Nat.le_of_ble_eq_true rfl) dX0_areAngles_726 ⟨Nat.le_of_ble_eq_true rfl, Nat.le_of_ble_eq_true rfl⟩) hS (fun b H locs hp hS hz => ?_)
                obtain ⟨eb_, hO⟩ := hp
                rw [eb_]
                have h_x0 := h_x0.ext hO
                have h_x0r0 := h_x0r0.ext hO
                have h_x0r0r0 := h_x0r0r0.ext hO
                have h_x0r0r1 := h_x0r0r1.ext hO
                have h_x0r0r2 := h_x0r0r2.ext hO
                have hF := hF.trans (hO.mono (fun _ _ z => z.elim))
                refine lv_istore (lv' := [(18, .int o50), (17, .int o49.1), (10, .int (bI v46)), (0, .ref x0), (3, .long o5), (5, .long o6)]) hx hb dX0_areAngles_729 hl (by decide) rfl (fun ls hl => ?_)
                refine lv_iload hx hb dX0_areAngles_731 (lv_at hl 2 rfl) ?_
                obtain ⟨K55, eK55, h⟩ := lt_step h
                have HK55 : ∀ (f51 : Nat → UInt64) (f52 : Nat → Int32) (v53 : Int32) (v54 : Bool) (h : K55 f51 f52 v53 v54 = some r) (H : Heap) (locs : List Loc) (hS : St D s H locs) (hF : Off (fun a => a = x0r0 ∨ a = x0r0r0 ∨ a = x0r0r2) s.heap H) (h_x0 : OA D 1 x0 [.ref x0r0] H) (h_x0r0 : ON D 0 x0r0 [.ref x0r0r0, .ref x0r0r1, .ref x0r0r2, .int v53, .int x0r0f4, .int v45, .int x0r0f6] H) (h_x0r0r0 : aD D x0r0r0 8 f51 H) (h_x0r0r1 : aD D x0r0r1 8 x0r0r1c H) (h_x0r0r2 : aZ D x0r0r2 8 f52 H) (ls : Array Slot) (hl : lv_has ls 19 [(0, .ref x0), (3, .long o5), (5, .long o6), (17, .int o49.1)]), W p l e R_X0_areAngles s m A below meth c H locs 7052 72104 Q (F0 m 856 ls [.int (bI v54)]) := by
                  intro f51 f52 v53 v54 h H locs hS hF h_x0 h_x0r0 h_x0r0r0 h_x0r0r1 h_x0r0r2 ls hl
                  subst eK55
                  refine lv_istore (lv' := [(10, .int (bI v54)), (0, .ref x0), (3, .long o5), (5, .long o6), (17, .int o49.1)]) hx hb dX0_areAngles_856 hl (by decide) rfl (fun ls hl => ?_)
                  refine lv_iload hx hb dX0_areAngles_858 (lv_at hl 0 rfl) ?_
                  refine r_ifz_eq (tgt := 982) hx hb dX0_areAngles_860 (by decide) (fun c56 => ?_) (fun c56 => ?_)
                  · have h := it_neg h (by rw [c56]; decide)
                    refine lv_iconst (v := 0) hx hb dX0_areAngles_982 (by decide) ?_
                    obtain rfl := Option.some.inj h
                    rw [eQ]
                    exact r_zret hx hb hr hlk hS (by decide) (Nat.le_of_ble_eq_true rfl) (Nat.le_of_ble_eq_true rfl) dX0_areAngles_983 ⟨_, rfl, rfl, h_x0r0, h_x0r0r0, h_x0r0r2, hF⟩
                  · have h := it_pos h (by rw [c56])
                    refine lv_aload_n hx hb dX0_areAngles_863 rfl (lv_at hl 1 rfl) ?_
                    refine r_get hx hb hts hown hS h_x0 rfl in_X0 0 (by decide) q936 rfl (v := .ref x0r0) rfl dX0_areAngles_864 ?_
                    refine lv_bipush (v := 7) hx hb dX0_areAngles_867 (by decide) ?_
                    obtain ⟨o57, eo57, h⟩ := bind_step h
                    refine r_ci (r_runV (rest := []) (As := [.int 7]) hC 1 (m_X1_angleTurn x0r0 x0r0r0 x0r0r1 x0r0r2  f51 x0r0r1c f52 v53 x0r0f4 v45 x0r0f6 7 o57 eo57) q1528 q1529 q1530 q46 q1531 (OA.recv hS h_x0r0.OA (C := RX1) rfl) hd_X1_angleTurn rfl ⟨Nat.le_of_ble_eq_true rfl, Nat.le_of_ble_eq_true rfl⟩ hS ⟨h_x0r0, hB_h_x0r0, h_x0r0r0, hB_h_x0r0r0, h_x0r0r1, h_x0r0r2, hB_h_x0r0r2, ne_x0r0_x0r0r0, ne_x0r0_x0r0r1, ne_x0r0_x0r0r2, ne_x0r0r0_x0r0r1, ne_x0r0r0_x0r0r2, ne_x0r0r1_x0r0r2⟩ hl.1 rfl (Nat.le_of_ble_eq_true rfl) dX0_areAngles_869 ⟨Nat.le_of_ble_eq_true rfl, Nat.le_of_ble_eq_true rfl⟩) hS (fun b H locs hp hS hz => ?_)
                    obtain ⟨rfl, h_x0r0, h_x0r0r0, h_x0r0r2, hO⟩ := hp
                    have h_x0 := h_x0.off hO (fun z => by rcases z with z | z | z <;> first | exact ne_x0_x0r0 z | exact ne_x0_x0r0r0 z | exact ne_x0_x0r0r2 z)
                    have h_x0r0r1 := h_x0r0r1.off hO (fun z => by rcases z with z | z | z <;> first | exact (Ne.symm ne_x0r0_x0r0r1) z | exact (Ne.symm ne_x0r0r0_x0r0r1) z | exact ne_x0r0r1_x0r0r2 z)
                    have hF := hF.fresh hO (fun a ha z => by
                      rcases z with z | z | z
                      · exact Or.inl z
                      · exact Or.inr (Or.inl z)
                      · exact Or.inr (Or.inr (z)))
                    refine lv_iconst (v := 1) hx hb dX0_areAngles_872 (by decide) ?_
                    refine lv_iload hx hb dX0_areAngles_873 (lv_at hl 4 rfl) ?_
                    obtain ⟨v58, ev58, h⟩ := lti_step h
                    refine r_isub hx hb ev58 dX0_areAngles_875 ?_
                    refine lv_icmp_ne (tgt := 982) hx hb dX0_areAngles_876 (by decide) (fun c59 => ?_) (fun c59 => ?_)
                    · have h := it_neg h c59
                      refine lv_iconst (v := 0) hx hb dX0_areAngles_982 (by decide) ?_
                      obtain rfl := Option.some.inj h
                      rw [eQ]
                      exact r_zret hx hb hr hlk hS (by decide) (Nat.le_of_ble_eq_true rfl) (Nat.le_of_ble_eq_true rfl) dX0_areAngles_983 ⟨_, rfl, rfl, h_x0r0, h_x0r0r0, h_x0r0r2, hF⟩
                    · have h := it_pos h c59
                      refine lv_aload_n hx hb dX0_areAngles_879 rfl (lv_at hl 1 rfl) ?_
                      refine r_get hx hb hts hown hS h_x0 rfl in_X0 0 (by decide) q936 rfl (v := .ref x0r0) rfl dX0_areAngles_880 ?_
                      refine lv_bipush (v := 7) hx hb dX0_areAngles_883 (by decide) ?_
                      refine lv_iconst (v := 0) hx hb dX0_areAngles_885 (by decide) ?_
                      refine lv_iconst (v := 2) hx hb dX0_areAngles_886 (by decide) ?_
                      obtain ⟨o60, eo60, h⟩ := bind_step h
                      refine r_cz (r_runV (rest := []) (As := [.int 7, .int 0, .int 2]) hC 3 (m_X1_angleSame x0r0 x0r0r0 x0r0r1 x0r0r2  o57.2.2.1 x0r0r1c o57.2.2.2 o57.2.1 x0r0f4 v45 x0r0f6 7 0 2 o60 eo60) q1509 q1510 q1511 q46 q1512 (OA.recv hS h_x0r0.OA (C := RX1) rfl) hd_X1_angleSame rfl ⟨Nat.le_of_ble_eq_true rfl, Nat.le_of_ble_eq_true rfl⟩ hS ⟨h_x0r0, h_x0r0r0, h_x0r0r1, h_x0r0r2⟩ hl.1 rfl (Nat.le_of_ble_eq_true rfl) dX0_areAngles_887 ⟨Nat.le_of_ble_eq_true rfl, Nat.le_of_ble_eq_true rfl⟩) hS (fun b H locs hp hS hz => ?_)
                      obtain ⟨eb_, hO⟩ := hp
                      rw [eb_]
                      have h_x0 := h_x0.ext hO
                      have h_x0r0 := h_x0r0.ext hO
                      have h_x0r0r0 := h_x0r0r0.ext hO
                      have h_x0r0r1 := h_x0r0r1.ext hO
                      have h_x0r0r2 := h_x0r0r2.ext hO
                      have hF := hF.trans (hO.mono (fun _ _ z => z.elim))
                      refine r_ifz_eq (tgt := 982) hx hb dX0_areAngles_890 (by decide) (fun c61 => ?_) (fun c61 => ?_)
                      · have h := it_neg h (by rw [c61]; decide)
                        refine lv_iconst (v := 0) hx hb dX0_areAngles_982 (by decide) ?_
                        obtain rfl := Option.some.inj h
                        rw [eQ]
                        exact r_zret hx hb hr hlk hS (by decide) (Nat.le_of_ble_eq_true rfl) (Nat.le_of_ble_eq_true rfl) dX0_areAngles_983 ⟨_, rfl, rfl, h_x0r0, h_x0r0r0, h_x0r0r2, hF⟩
                      · have h := it_pos h (by rw [c61])
                        refine lv_aload_n hx hb dX0_areAngles_893 rfl (lv_at hl 1 rfl) ?_
                        refine r_get hx hb hts hown hS h_x0 rfl in_X0 0 (by decide) q936 rfl (v := .ref x0r0) rfl dX0_areAngles_894 ?_
                        refine lv_iconst (v := 0) hx hb dX0_areAngles_897 (by decide) ?_
                        refine lv_iconst (v := 1) hx hb dX0_areAngles_898 (by decide) ?_
                        refine lv_iconst (v := 1) hx hb dX0_areAngles_899 (by decide) ?_
                        obtain ⟨o62, eo62, h⟩ := bind_step h
                        refine r_cz (r_runV (rest := []) (As := [.int 0, .int 1, .int 1]) hC 3 (m_X1_angleSame x0r0 x0r0r0 x0r0r1 x0r0r2  o57.2.2.1 x0r0r1c o57.2.2.2 o57.2.1 x0r0f4 v45 x0r0f6 0 1 1 o62 eo62) q1509 q1510 q1511 q46 q1512 (OA.recv hS h_x0r0.OA (C := RX1) rfl) hd_X1_angleSame rfl ⟨Nat.le_of_ble_eq_true rfl, Nat.le_of_ble_eq_true rfl⟩ hS ⟨h_x0r0, h_x0r0r0, h_x0r0r1, h_x0r0r2⟩ hl.1 rfl (Nat.le_of_ble_eq_true rfl) dX0_areAngles_900 ⟨Nat.le_of_ble_eq_true rfl, Nat.le_of_ble_eq_true rfl⟩) hS (fun b H locs hp hS hz => ?_)
                        obtain ⟨eb_, hO⟩ := hp
                        rw [eb_]
                        have h_x0 := h_x0.ext hO
                        have h_x0r0 := h_x0r0.ext hO
                        have h_x0r0r0 := h_x0r0r0.ext hO
                        have h_x0r0r1 := h_x0r0r1.ext hO
                        have h_x0r0r2 := h_x0r0r2.ext hO
                        have hF := hF.trans (hO.mono (fun _ _ z => z.elim))
                        refine lv_lload_n hx hb dX0_areAngles_903 rfl (lv_at hl 2 rfl) ?_
                        refine lv_lload hx hb dX0_areAngles_904 (lv_at hl 3 rfl) ?_
                        obtain ⟨v63, ev63, h⟩ := lti_step h
                        refine r_lcmp hx hb ev63 dX0_areAngles_906 ?_
                        obtain ⟨K65, eK65, h⟩ := lt_step h
                        have HK65 : ∀ (v64 : Bool) (h : K65 v64 = some r) (H : Heap) (locs : List Loc) (hS : St D s H locs) (hF : Off (fun a => a = x0r0 ∨ a = x0r0r0 ∨ a = x0r0r2) s.heap H) (h_x0 : OA D 1 x0 [.ref x0r0] H) (h_x0r0 : ON D 0 x0r0 [.ref x0r0r0, .ref x0r0r1, .ref x0r0r2, .int o57.2.1, .int x0r0f4, .int v45, .int x0r0f6] H) (h_x0r0r0 : aD D x0r0r0 8 o57.2.2.1 H) (h_x0r0r1 : aD D x0r0r1 8 x0r0r1c H) (h_x0r0r2 : aZ D x0r0r2 8 o57.2.2.2 H) (ls : Array Slot) (hl : lv_has ls 19 [(0, .ref x0), (3, .long o5), (5, .long o6)]), W p l e R_X0_areAngles s m A below meth c H locs 7324 74722 Q (F0 m 915 ls [.int (bI v64), .int (bI o62)]) := by
                          intro v64 h H locs hS hF h_x0 h_x0r0 h_x0r0r0 h_x0r0r1 h_x0r0r2 ls hl
                          subst eK65
                          refine lv_icmp_ne (tgt := 982) hx hb dX0_areAngles_915 (by decide) (fun c66 => ?_) (fun c66 => ?_)
                          · have h := it_neg h c66
                            refine lv_iconst (v := 0) hx hb dX0_areAngles_982 (by decide) ?_
                            obtain rfl := Option.some.inj h
                            rw [eQ]
                            exact r_zret hx hb hr hlk hS (by decide) (Nat.le_of_ble_eq_true rfl) (Nat.le_of_ble_eq_true rfl) dX0_areAngles_983 ⟨_, rfl, rfl, h_x0r0, h_x0r0r0, h_x0r0r2, hF⟩
                          · have h := it_pos h c66
                            refine lv_aload_n hx hb dX0_areAngles_918 rfl (lv_at hl 0 rfl) ?_
                            refine r_get hx hb hts hown hS h_x0 rfl in_X0 0 (by decide) q936 rfl (v := .ref x0r0) rfl dX0_areAngles_919 ?_
                            refine lv_iconst (v := 0) hx hb dX0_areAngles_922 (by decide) ?_
                            refine lv_iconst (v := 1) hx hb dX0_areAngles_923 (by decide) ?_
                            refine lv_iconst (v := 0) hx hb dX0_areAngles_924 (by decide) ?_
                            obtain ⟨o67, eo67, h⟩ := bind_step h
                            refine r_ci (r_runV (rest := []) (As := [.int 0, .int 1, .int 0]) hC 3 (m_X1_angleOrder x0r0 x0r0r0 x0r0r1 x0r0r2  o57.2.2.1 x0r0r1c o57.2.2.2 o57.2.1 x0r0f4 v45 x0r0f6 0 1 0 o67 eo67) q1536 q1537 q1538 q46 q1539 (OA.recv hS h_x0r0.OA (C := RX1) rfl) hd_X1_angleOrder rfl ⟨Nat.le_of_ble_eq_true rfl, Nat.le_of_ble_eq_true rfl⟩ hS ⟨h_x0r0, h_x0r0r0, h_x0r0r1, h_x0r0r2⟩ hl.1 rfl (Nat.le_of_ble_eq_true rfl) dX0_areAngles_925 ⟨Nat.le_of_ble_eq_true rfl, Nat.le_of_ble_eq_true rfl⟩) hS (fun b H locs hp hS hz => ?_)
                            obtain ⟨eb_, hO⟩ := hp
                            rw [eb_]
                            have h_x0 := h_x0.ext hO
                            have h_x0r0 := h_x0r0.ext hO
                            have h_x0r0r0 := h_x0r0r0.ext hO
                            have h_x0r0r1 := h_x0r0r1.ext hO
                            have h_x0r0r2 := h_x0r0r2.ext hO
                            have hF := hF.trans (hO.mono (fun _ _ z => z.elim))
                            refine lv_aload_n hx hb dX0_areAngles_928 rfl (lv_at hl 0 rfl) ?_
                            refine r_get hx hb hts hown hS h_x0 rfl in_X0 0 (by decide) q936 rfl (v := .ref x0r0) rfl dX0_areAngles_929 ?_
                            refine lv_iconst (v := 1) hx hb dX0_areAngles_932 (by decide) ?_
                            refine lv_iconst (v := 0) hx hb dX0_areAngles_933 (by decide) ?_
                            refine lv_iconst (v := 1) hx hb dX0_areAngles_934 (by decide) ?_
                            obtain ⟨o68, eo68, h⟩ := bind_step h
                            refine r_ci (r_runV (rest := [.int o67]) (As := [.int 1, .int 0, .int 1]) hC 3 (m_X1_angleOrder x0r0 x0r0r0 x0r0r1 x0r0r2  o57.2.2.1 x0r0r1c o57.2.2.2 o57.2.1 x0r0f4 v45 x0r0f6 1 0 1 o68 eo68) q1536 q1537 q1538 q46 q1539 (OA.recv hS h_x0r0.OA (C := RX1) rfl) hd_X1_angleOrder rfl ⟨Nat.le_of_ble_eq_true rfl, Nat.le_of_ble_eq_true rfl⟩ hS ⟨h_x0r0, h_x0r0r0, h_x0r0r1, h_x0r0r2⟩ hl.1 rfl (Nat.le_of_ble_eq_true rfl) dX0_areAngles_935 ⟨Nat.le_of_ble_eq_true rfl, Nat.le_of_ble_eq_true rfl⟩) hS (fun b H locs hp hS hz => ?_)
                            obtain ⟨eb_, hO⟩ := hp
                            rw [eb_]
                            have h_x0 := h_x0.ext hO
                            have h_x0r0 := h_x0r0.ext hO
                            have h_x0r0r0 := h_x0r0r0.ext hO
                            have h_x0r0r1 := h_x0r0r1.ext hO
                            have h_x0r0r2 := h_x0r0r2.ext hO
                            have hF := hF.trans (hO.mono (fun _ _ z => z.elim))
                            obtain ⟨v69, ev69, h⟩ := lti_step h
                            refine r_ineg hx hb ev69 dX0_areAngles_938 ?_
                            refine lv_icmp_ne (tgt := 982) hx hb dX0_areAngles_939 (by decide) (fun c70 => ?_) (fun c70 => ?_)
                            · have h := it_neg h c70
                              refine lv_iconst (v := 0) hx hb dX0_areAngles_982 (by decide) ?_
                              obtain rfl := Option.some.inj h
                              rw [eQ]
                              exact r_zret hx hb hr hlk hS (by decide) (Nat.le_of_ble_eq_true rfl) (Nat.le_of_ble_eq_true rfl) dX0_areAngles_983 ⟨_, rfl, rfl, h_x0r0, h_x0r0r0, h_x0r0r2, hF⟩
                            · have h := it_pos h c70
                              refine lv_aload_n hx hb dX0_areAngles_942 rfl (lv_at hl 0 rfl) ?_
                              refine r_get hx hb hts hown hS h_x0 rfl in_X0 0 (by decide) q936 rfl (v := .ref x0r0) rfl dX0_areAngles_943 ?_
                              refine lv_iconst (v := 0) hx hb dX0_areAngles_946 (by decide) ?_
                              refine lv_iconst (v := 1) hx hb dX0_areAngles_947 (by decide) ?_
                              refine lv_iconst (v := 0) hx hb dX0_areAngles_948 (by decide) ?_
                              obtain ⟨o71, eo71, h⟩ := bind_step h
                              refine r_ci (r_runV (rest := []) (As := [.int 0, .int 1, .int 0]) hC 3 (m_X1_angleOrder x0r0 x0r0r0 x0r0r1 x0r0r2  o57.2.2.1 x0r0r1c o57.2.2.2 o57.2.1 x0r0f4 v45 x0r0f6 0 1 0 o71 eo71) q1536 q1537 q1538 q46 q1539 (OA.recv hS h_x0r0.OA (C := RX1) rfl) hd_X1_angleOrder rfl ⟨Nat.le_of_ble_eq_true rfl, Nat.le_of_ble_eq_true rfl⟩ hS ⟨h_x0r0, h_x0r0r0, h_x0r0r1, h_x0r0r2⟩ hl.1 rfl (Nat.le_of_ble_eq_true rfl) dX0_areAngles_949 ⟨Nat.le_of_ble_eq_true rfl, Nat.le_of_ble_eq_true rfl⟩) hS (fun b H locs hp hS hz => ?_)
                              obtain ⟨eb_, hO⟩ := hp
                              rw [eb_]
                              have h_x0 := h_x0.ext hO
                              have h_x0r0 := h_x0r0.ext hO
                              have h_x0r0r0 := h_x0r0r0.ext hO
                              have h_x0r0r1 := h_x0r0r1.ext hO
                              have h_x0r0r2 := h_x0r0r2.ext hO
                              have hF := hF.trans (hO.mono (fun _ _ z => z.elim))
                              refine lv_lload_n hx hb dX0_areAngles_952 rfl (lv_at hl 1 rfl) ?_
                              refine lv_lload hx hb dX0_areAngles_953 (lv_at hl 2 rfl) ?_
                              obtain ⟨v72, ev72, h⟩ := lti_step h
                              refine r_lcmp hx hb ev72 dX0_areAngles_955 ?_
                              obtain ⟨K74, eK74, h⟩ := lt_step h
                              have HK74 : ∀ (v73 : Int32) (h : K74 v73 = some r) (H : Heap) (locs : List Loc) (hS : St D s H locs) (hF : Off (fun a => a = x0r0 ∨ a = x0r0r0 ∨ a = x0r0r2) s.heap H) (h_x0 : OA D 1 x0 [.ref x0r0] H) (h_x0r0 : ON D 0 x0r0 [.ref x0r0r0, .ref x0r0r1, .ref x0r0r2, .int o57.2.1, .int x0r0f4, .int v45, .int x0r0f6] H) (h_x0r0r0 : aD D x0r0r0 8 o57.2.2.1 H) (h_x0r0r1 : aD D x0r0r1 8 x0r0r1c H) (h_x0r0r2 : aZ D x0r0r2 8 o57.2.2.2 H) (ls : Array Slot) (hl : lv_has ls 19 []), W p l e R_X0_areAngles s m A below meth c H locs 7330 74728 Q (F0 m 975 ls [.int v73, .int o71]) := by
                                intro v73 h H locs hS hF h_x0 h_x0r0 h_x0r0r0 h_x0r0r1 h_x0r0r2 ls hl
                                subst eK74
                                refine lv_icmp_ne (tgt := 982) hx hb dX0_areAngles_975 (by decide) (fun c75 => ?_) (fun c75 => ?_)
                                · have h := it_neg h c75
                                  refine lv_iconst (v := 0) hx hb dX0_areAngles_982 (by decide) ?_
                                  obtain rfl := Option.some.inj h
                                  rw [eQ]
                                  exact r_zret hx hb hr hlk hS (by decide) (Nat.le_of_ble_eq_true rfl) (Nat.le_of_ble_eq_true rfl) dX0_areAngles_983 ⟨_, rfl, rfl, h_x0r0, h_x0r0r0, h_x0r0r2, hF⟩
                                · have h := it_pos h c75
                                  refine lv_iconst (v := 1) hx hb dX0_areAngles_978 (by decide) ?_
                                  refine lv_goto (tgt := 983) hx hb dX0_areAngles_979 (by decide) ?_
                                  obtain rfl := Option.some.inj h
                                  rw [eQ]
                                  exact r_zret hx hb hr hlk hS (by decide) (Nat.le_of_ble_eq_true rfl) (Nat.le_of_ble_eq_true rfl) dX0_areAngles_983 ⟨_, rfl, rfl, h_x0r0, h_x0r0r0, h_x0r0r2, hF⟩
                              clear eK74
                              refine lv_if_ge (tgt := 963) hx hb dX0_areAngles_956 (by decide) (fun c76 => ?_) (fun c76 => ?_)
                              · have h := it_pos h c76
                                refine lv_lload_n hx hb dX0_areAngles_963 rfl (lv_at hl 1 rfl) ?_
                                refine lv_lload hx hb dX0_areAngles_964 (lv_at hl 2 rfl) ?_
                                obtain ⟨v77, ev77, h⟩ := lti_step h
                                refine r_lcmp hx hb ev77 dX0_areAngles_966 ?_
                                refine lv_if_le (tgt := 974) hx hb dX0_areAngles_967 (by decide) (fun c78 => ?_) (fun c78 => ?_)
                                · have h := it_pos h c78
                                  refine lv_iconst (v := 0) hx hb dX0_areAngles_974 (by decide) ?_
                                  exact HK74 0 h H locs hS hF h_x0 h_x0r0 h_x0r0r0 h_x0r0r1 h_x0r0r2 ls (lv_sub hl [] rfl)
                                · have h := it_neg h c78
                                  refine lv_iconst (v := 1) hx hb dX0_areAngles_970 (by decide) ?_
                                  refine lv_goto (tgt := 975) hx hb dX0_areAngles_971 (by decide) ?_
                                  exact HK74 1 h H locs hS hF h_x0 h_x0r0 h_x0r0r0 h_x0r0r1 h_x0r0r2 ls (lv_sub hl [] rfl)
                              · have h := it_neg h c76
                                refine lv_iconst (v := (-1)) hx hb dX0_areAngles_959 (by decide) ?_
                                refine lv_goto (tgt := 975) hx hb dX0_areAngles_960 (by decide) ?_
                                exact HK74 (-1) h H locs hS hF h_x0 h_x0r0 h_x0r0r0 h_x0r0r1 h_x0r0r2 ls (lv_sub hl [] rfl)
                        clear eK65
                        refine lv_if_ne (tgt := 914) hx hb dX0_areAngles_907 (by decide) (fun c79 => ?_) (fun c79 => ?_)
                        · have h := it_neg h c79
                          refine lv_iconst (v := 0) hx hb dX0_areAngles_914 (by decide) ?_
                          exact HK65 false h H locs hS hF h_x0 h_x0r0 h_x0r0r0 h_x0r0r1 h_x0r0r2 ls (lv_sub hl [1, 2, 3] rfl)
                        · have h := it_pos h c79
                          refine lv_iconst (v := 1) hx hb dX0_areAngles_910 (by decide) ?_
                          refine lv_goto (tgt := 915) hx hb dX0_areAngles_911 (by decide) ?_
                          exact HK65 true h H locs hS hF h_x0 h_x0r0 h_x0r0r0 h_x0r0r1 h_x0r0r2 ls (lv_sub hl [1, 2, 3] rfl)
                clear eK55
                obtain ⟨K83, eK83, h⟩ := lt_step h
                have HK83 : ∀ (f80 : Nat → UInt64) (f81 : Nat → Int32) (v82 : Int32) (h : K83 f80 f81 v82 = some r) (H : Heap) (locs : List Loc) (hS : St D s H locs) (hF : Off (fun a => a = x0r0 ∨ a = x0r0r0 ∨ a = x0r0r2) s.heap H) (h_x0 : OA D 1 x0 [.ref x0r0] H) (h_x0r0 : ON D 0 x0r0 [.ref x0r0r0, .ref x0r0r1, .ref x0r0r2, .int v82, .int x0r0f4, .int v45, .int x0r0f6] H) (h_x0r0r0 : aD D x0r0r0 8 f80 H) (h_x0r0r1 : aD D x0r0r1 8 x0r0r1c H) (h_x0r0r2 : aZ D x0r0r2 8 f81 H) (ls : Array Slot) (hl : lv_has ls 19 [(0, .ref x0), (3, .long o5), (5, .long o6), (17, .int o49.1)]), W p l e R_X0_areAngles s m A below meth c H locs 7052 72104 Q (F0 m 855 ls []) := by
                  intro f80 f81 v82 h H locs hS hF h_x0 h_x0r0 h_x0r0r0 h_x0r0r1 h_x0r0r2 ls hl
                  subst eK83
                  refine lv_iconst (v := 0) hx hb dX0_areAngles_855 (by decide) ?_
                  exact HK55 f80 f81 v82 false h H locs hS hF h_x0 h_x0r0 h_x0r0r0 h_x0r0r1 h_x0r0r2 ls (lv_sub hl [0, 1, 2, 3] rfl)
                clear eK83
                refine r_ifz_eq (tgt := 855) hx hb dX0_areAngles_733 (by decide) (fun c84 => ?_) (fun c84 => ?_)
                · have h := it_neg h (by rw [c84]; decide)
                  refine W.widen (k := 7052) (n := 72104) (Nat.le_of_ble_eq_true rfl) (Nat.le_of_ble_eq_true rfl) ?_
                  exact HK83 o49.2.2.1 o49.2.2.2 o49.2.1 h H locs hS hF h_x0 h_x0r0 h_x0r0r0 h_x0r0r1 h_x0r0r2 ls (lv_sub hl [3, 4, 5, 1] rfl)
                · have h := it_pos h (by rw [c84])
                  refine lv_iload hx hb dX0_areAngles_736 (lv_at hl 1 rfl) ?_
                  refine lv_aload_n hx hb dX0_areAngles_738 rfl (lv_at hl 3 rfl) ?_
                  refine r_get hx hb hts hown hS h_x0 rfl in_X0 0 (by decide) q936 rfl (v := .ref x0r0) rfl dX0_areAngles_739 ?_
                  refine lv_iconst (v := 0) hx hb dX0_areAngles_742 (by decide) ?_
                  obtain ⟨o85, eo85, h⟩ := bind_step h
                  refine r_cr (r_runV (rest := [.int o49.1]) (As := [.int 0]) hC 1 (m_X1_angleText x0r0 x0r0r0 x0r0r1 x0r0r2  o49.2.2.1 x0r0r1c o49.2.2.2 o49.2.1 x0r0f4 v45 x0r0f6 0 o85 eo85) q948 q949 q950 q46 q951 (OA.recv hS h_x0r0.OA (C := RX1) rfl) hd_X1_angleText rfl ⟨Nat.le_of_ble_eq_true rfl, Nat.le_of_ble_eq_true rfl⟩ hS ⟨h_x0r0, h_x0r0r0, h_x0r0r1, h_x0r0r2⟩ hl.1 rfl (Nat.le_of_ble_eq_true rfl) dX0_areAngles_743 ⟨Nat.le_of_ble_eq_true rfl, Nat.le_of_ble_eq_true rfl⟩) hS (fun ad86 H locs hp hS hz => ?_)
                  obtain ⟨ad87, had86, had87, lo85_1, frad87, frad86, ne_ad86_ad87, hO⟩ := hp
                  have ne_h_x0_had86 : x0 ≠ ad86 := Nat.ne_of_lt (Nat.lt_of_lt_of_le h_x0.lt frad86)
                  have ne_h_x0r0_had86 : x0r0 ≠ ad86 := Nat.ne_of_lt (Nat.lt_of_lt_of_le h_x0r0.lt frad86)
                  have ne_h_x0r0r0_had86 : x0r0r0 ≠ ad86 := Nat.ne_of_lt (Nat.lt_of_lt_of_le h_x0r0r0.lt frad86)
                  have ne_h_x0r0r1_had86 : x0r0r1 ≠ ad86 := Nat.ne_of_lt (Nat.lt_of_lt_of_le h_x0r0r1.lt frad86)
                  have ne_h_x0r0r2_had86 : x0r0r2 ≠ ad86 := Nat.ne_of_lt (Nat.lt_of_lt_of_le h_x0r0r2.lt frad86)
                  have gad86 : s.heap.size ≤ ad86 := Nat.le_trans hF.1 frad86
                  have hB_had86 : dB D ≤ ad86 := by have := hS0.1.2.2.1; omega
                  have ne_h_x0_had87 : x0 ≠ ad87 := Nat.ne_of_lt (Nat.lt_of_lt_of_le h_x0.lt frad87)
                  have ne_h_x0r0_had87 : x0r0 ≠ ad87 := Nat.ne_of_lt (Nat.lt_of_lt_of_le h_x0r0.lt frad87)
                  have ne_h_x0r0r0_had87 : x0r0r0 ≠ ad87 := Nat.ne_of_lt (Nat.lt_of_lt_of_le h_x0r0r0.lt frad87)
                  have ne_h_x0r0r1_had87 : x0r0r1 ≠ ad87 := Nat.ne_of_lt (Nat.lt_of_lt_of_le h_x0r0r1.lt frad87)
                  have ne_h_x0r0r2_had87 : x0r0r2 ≠ ad87 := Nat.ne_of_lt (Nat.lt_of_lt_of_le h_x0r0r2.lt frad87)
                  have gad87 : s.heap.size ≤ ad87 := Nat.le_trans hF.1 frad87
                  have hB_had87 : dB D ≤ ad87 := by have := hS0.1.2.2.1; omega
                  have h_x0 := h_x0.ext hO
                  have h_x0r0 := h_x0r0.ext hO
                  have h_x0r0r0 := h_x0r0r0.ext hO
                  have h_x0r0r1 := h_x0r0r1.ext hO
                  have h_x0r0r2 := h_x0r0r2.ext hO
                  have hF := hF.trans (hO.mono (fun _ _ z => z.elim))
                  refine lv_iconst (v := 0) hx hb dX0_areAngles_746 (by decide) ?_
                  obtain ⟨o88, eo88, h⟩ := bind_step h
                  refine r_cp (r_runV (rest := [.int o49.1]) (As := [.int 0]) hC 1 (m_J5_charAt ad86 ad87 0 0 o85.1 o85.2 0 o88 eo88) q1484 q1145 q1146 q45 q1147 (OA.recv hS had86.OA (C := RJ5) rfl) hd_J5_charAt rfl ⟨Nat.le_of_ble_eq_true rfl, Nat.le_of_ble_eq_true rfl⟩ hS ⟨had86.OA, had87, lo85_1⟩ hl.1 rfl (Nat.le_of_ble_eq_true rfl) dX0_areAngles_747 ⟨Nat.le_of_ble_eq_true rfl, Nat.le_of_ble_eq_true rfl⟩) ?_
                  refine lv_bipush (v := 48) hx hb dX0_areAngles_750 (by decide) ?_
                  obtain ⟨K90, eK90, h⟩ := lt_step h
                  have HK90 : ∀ (v89 : Bool) (h : K90 v89 = some r) (H : Heap) (locs : List Loc) (hS : St D s H locs) (hF : Off (fun a => a = x0r0 ∨ a = x0r0r0 ∨ a = x0r0r2) s.heap H) (h_x0 : OA D 1 x0 [.ref x0r0] H) (h_x0r0 : ON D 0 x0r0 [.ref x0r0r0, .ref x0r0r1, .ref x0r0r2, .int o49.2.1, .int x0r0f4, .int v45, .int x0r0f6] H) (h_x0r0r0 : aD D x0r0r0 8 o49.2.2.1 H) (h_x0r0r1 : aD D x0r0r1 8 x0r0r1c H) (h_x0r0r2 : aZ D x0r0r2 8 o49.2.2.2 H) (ls : Array Slot) (hl : lv_has ls 19 [(0, .ref x0), (3, .long o5), (5, .long o6), (17, .int o49.1), (18, .int o50)]), W p l e R_X0_areAngles s m A below meth c H locs 6757 68884 Q (F0 m 760 ls [.int (bI v89), .int o49.1]) := by
                    intro v89 h H locs hS hF h_x0 h_x0r0 h_x0r0r0 h_x0r0r1 h_x0r0r2 ls hl
                    subst eK90
                    refine lv_icmp_ne (tgt := 855) hx hb dX0_areAngles_760 (by decide) (fun c91 => ?_) (fun c91 => ?_)
                    · have h := it_neg h c91
                      refine W.widen (k := 7052) (n := 72104) (Nat.le_of_ble_eq_true rfl) (Nat.le_of_ble_eq_true rfl) ?_
                      exact HK83 o49.2.2.1 o49.2.2.2 o49.2.1 h H locs hS hF h_x0 h_x0r0 h_x0r0r0 h_x0r0r1 h_x0r0r2 ls (lv_sub hl [0, 1, 2, 3] rfl)
                    · have h := it_pos h c91
                      refine lv_iload hx hb dX0_areAngles_763 (lv_at hl 4 rfl) ?_
                      refine lv_iload hx hb dX0_areAngles_765 (lv_at hl 3 rfl) ?_
                      refine lv_iconst (v := 1) hx hb dX0_areAngles_767 (by decide) ?_
                      obtain ⟨K93, eK93, h⟩ := lt_step h
                      have HK93 : ∀ (v92 : Int32) (h : K93 v92 = some r) (H : Heap) (locs : List Loc) (hS : St D s H locs) (hF : Off (fun a => a = x0r0 ∨ a = x0r0r0 ∨ a = x0r0r2) s.heap H) (h_x0 : OA D 1 x0 [.ref x0r0] H) (h_x0r0 : ON D 0 x0r0 [.ref x0r0r0, .ref x0r0r1, .ref x0r0r2, .int o49.2.1, .int x0r0f4, .int v45, .int x0r0f6] H) (h_x0r0r0 : aD D x0r0r0 8 o49.2.2.1 H) (h_x0r0r1 : aD D x0r0r1 8 x0r0r1c H) (h_x0r0r2 : aZ D x0r0r2 8 o49.2.2.2 H) (ls : Array Slot) (hl : lv_has ls 19 [(0, .ref x0), (3, .long o5), (5, .long o6), (17, .int o49.1)]), W p l e R_X0_areAngles s m A below meth c H locs 6757 68884 Q (F0 m 776 ls [.int v92, .int o50]) := by
                        intro v92 h H locs hS hF h_x0 h_x0r0 h_x0r0r0 h_x0r0r1 h_x0r0r2 ls hl
                        subst eK93
                        refine lv_icmp_ne (tgt := 855) hx hb dX0_areAngles_776 (by decide) (fun c94 => ?_) (fun c94 => ?_)
                        · have h := it_neg h c94
                          refine W.widen (k := 7052) (n := 72104) (Nat.le_of_ble_eq_true rfl) (Nat.le_of_ble_eq_true rfl) ?_
                          exact HK83 o49.2.2.1 o49.2.2.2 o49.2.1 h H locs hS hF h_x0 h_x0r0 h_x0r0r0 h_x0r0r1 h_x0r0r2 ls (lv_sub hl [0, 1, 2, 3] rfl)
                        · have h := it_pos h c94
                          refine lv_aload_n hx hb dX0_areAngles_779 rfl (lv_at hl 0 rfl) ?_
                          refine r_get hx hb hts hown hS h_x0 rfl in_X0 0 (by decide) q936 rfl (v := .ref x0r0) rfl dX0_areAngles_780 ?_
                          refine lv_bipush (v := 7) hx hb dX0_areAngles_783 (by decide) ?_
                          obtain ⟨o95, eo95, h⟩ := bind_step h
                          refine r_cr (r_runV (rest := []) (As := [.int 7]) hC 1 (m_X1_angleText x0r0 x0r0r0 x0r0r1 x0r0r2  o49.2.2.1 x0r0r1c o49.2.2.2 o49.2.1 x0r0f4 v45 x0r0f6 7 o95 eo95) q948 q949 q950 q46 q951 (OA.recv hS h_x0r0.OA (C := RX1) rfl) hd_X1_angleText rfl ⟨Nat.le_of_ble_eq_true rfl, Nat.le_of_ble_eq_true rfl⟩ hS ⟨h_x0r0, h_x0r0r0, h_x0r0r1, h_x0r0r2⟩ hl.1 rfl (Nat.le_of_ble_eq_true rfl) dX0_areAngles_785 ⟨Nat.le_of_ble_eq_true rfl, Nat.le_of_ble_eq_true rfl⟩) hS (fun ad96 H locs hp hS hz => ?_)
                          obtain ⟨ad97, had96, had97, lo95_1, frad97, frad96, ne_ad96_ad97, hO⟩ := hp
                          have ne_h_x0_had96 : x0 ≠ ad96 := Nat.ne_of_lt (Nat.lt_of_lt_of_le h_x0.lt frad96)
                          have ne_h_x0r0_had96 : x0r0 ≠ ad96 := Nat.ne_of_lt (Nat.lt_of_lt_of_le h_x0r0.lt frad96)
                          have ne_h_x0r0r0_had96 : x0r0r0 ≠ ad96 := Nat.ne_of_lt (Nat.lt_of_lt_of_le h_x0r0r0.lt frad96)
                          have ne_h_x0r0r1_had96 : x0r0r1 ≠ ad96 := Nat.ne_of_lt (Nat.lt_of_lt_of_le h_x0r0r1.lt frad96)
                          have ne_h_x0r0r2_had96 : x0r0r2 ≠ ad96 := Nat.ne_of_lt (Nat.lt_of_lt_of_le h_x0r0r2.lt frad96)
                          have gad96 : s.heap.size ≤ ad96 := Nat.le_trans hF.1 frad96
                          have hB_had96 : dB D ≤ ad96 := by have := hS0.1.2.2.1; omega
                          have ne_h_x0_had97 : x0 ≠ ad97 := Nat.ne_of_lt (Nat.lt_of_lt_of_le h_x0.lt frad97)
                          have ne_h_x0r0_had97 : x0r0 ≠ ad97 := Nat.ne_of_lt (Nat.lt_of_lt_of_le h_x0r0.lt frad97)
                          have ne_h_x0r0r0_had97 : x0r0r0 ≠ ad97 := Nat.ne_of_lt (Nat.lt_of_lt_of_le h_x0r0r0.lt frad97)
                          have ne_h_x0r0r1_had97 : x0r0r1 ≠ ad97 := Nat.ne_of_lt (Nat.lt_of_lt_of_le h_x0r0r1.lt frad97)
                          have ne_h_x0r0r2_had97 : x0r0r2 ≠ ad97 := Nat.ne_of_lt (Nat.lt_of_lt_of_le h_x0r0r2.lt frad97)
                          have gad97 : s.heap.size ≤ ad97 := Nat.le_trans hF.1 frad97
                          have hB_had97 : dB D ≤ ad97 := by have := hS0.1.2.2.1; omega
                          have h_x0 := h_x0.ext hO
                          have h_x0r0 := h_x0r0.ext hO
                          have h_x0r0r0 := h_x0r0r0.ext hO
                          have h_x0r0r1 := h_x0r0r1.ext hO
                          have h_x0r0r2 := h_x0r0r2.ext hO
                          have hF := hF.trans (hO.mono (fun _ _ z => z.elim))
                          refine lv_iconst (v := 1) hx hb dX0_areAngles_788 (by decide) ?_
                          obtain ⟨o98, eo98, h⟩ := bind_step h
                          refine r_cr (r_runV (rest := []) (As := [.int 1]) hC 1 (m_J5_substring ad96 ad97 0 0 o95.1 o95.2 1 o98 eo98) q1082 q1083 q1084 q45 q1085 (OA.recv hS had96.OA (C := RJ5) rfl) hd_J5_substring rfl ⟨Nat.le_of_ble_eq_true rfl, Nat.le_of_ble_eq_true rfl⟩ hS ⟨had96.OA, had97, lo95_1⟩ hl.1 rfl (Nat.le_of_ble_eq_true rfl) dX0_areAngles_789 ⟨Nat.le_of_ble_eq_true rfl, Nat.le_of_ble_eq_true rfl⟩) hS (fun ad99 H locs hp hS hz => ?_)
                          obtain ⟨ad100, had99, had100, lo98_1, frad99, ne_ad99_ad100, hO⟩ := hp
                          have ne_h_x0_had99 : x0 ≠ ad99 := Nat.ne_of_lt (Nat.lt_of_lt_of_le h_x0.lt frad99)
                          have ne_h_x0r0_had99 : x0r0 ≠ ad99 := Nat.ne_of_lt (Nat.lt_of_lt_of_le h_x0r0.lt frad99)
                          have ne_h_x0r0r0_had99 : x0r0r0 ≠ ad99 := Nat.ne_of_lt (Nat.lt_of_lt_of_le h_x0r0r0.lt frad99)
                          have ne_h_x0r0r1_had99 : x0r0r1 ≠ ad99 := Nat.ne_of_lt (Nat.lt_of_lt_of_le h_x0r0r1.lt frad99)
                          have ne_h_x0r0r2_had99 : x0r0r2 ≠ ad99 := Nat.ne_of_lt (Nat.lt_of_lt_of_le h_x0r0r2.lt frad99)
                          have ne_had96_had99 : ad96 ≠ ad99 := Nat.ne_of_lt (Nat.lt_of_lt_of_le had96.lt frad99)
                          have ne_had97_had99 : ad97 ≠ ad99 := Nat.ne_of_lt (Nat.lt_of_lt_of_le had97.lt frad99)
                          have gad99 : s.heap.size ≤ ad99 := Nat.le_trans hF.1 frad99
                          have hB_had99 : dB D ≤ ad99 := by have := hS0.1.2.2.1; omega
                          have h_x0 := h_x0.ext hO
                          have h_x0r0 := h_x0r0.ext hO
                          have h_x0r0r0 := h_x0r0r0.ext hO
                          have h_x0r0r1 := h_x0r0r1.ext hO
                          have h_x0r0r2 := h_x0r0r2.ext hO
                          have had96 := had96.ext hO
                          have had97 := had97.ext hO
                          have hF := hF.trans (hO.mono (fun _ _ z => z.elim))
                          refine lv_aload_n hx hb dX0_areAngles_792 rfl (lv_at hl 0 rfl) ?_
                          refine r_get hx hb hts hown hS h_x0 rfl in_X0 0 (by decide) q936 rfl (v := .ref x0r0) rfl dX0_areAngles_793 ?_
                          refine lv_iconst (v := 0) hx hb dX0_areAngles_796 (by decide) ?_
                          obtain ⟨o101, eo101, h⟩ := bind_step h
                          refine r_cr (r_runV (rest := [.ref ad99]) (As := [.int 0]) hC 1 (m_X1_angleText x0r0 x0r0r0 x0r0r1 x0r0r2  o49.2.2.1 x0r0r1c o49.2.2.2 o49.2.1 x0r0f4 v45 x0r0f6 0 o101 eo101) q948 q949 q950 q46 q951 (OA.recv hS h_x0r0.OA (C := RX1) rfl) hd_X1_angleText rfl ⟨Nat.le_of_ble_eq_true rfl, Nat.le_of_ble_eq_true rfl⟩ hS ⟨h_x0r0, h_x0r0r0, h_x0r0r1, h_x0r0r2⟩ hl.1 rfl (Nat.le_of_ble_eq_true rfl) dX0_areAngles_797 ⟨Nat.le_of_ble_eq_true rfl, Nat.le_of_ble_eq_true rfl⟩) hS (fun ad102 H locs hp hS hz => ?_)
                          obtain ⟨ad103, had102, had103, lo101_1, frad103, frad102, ne_ad102_ad103, hO⟩ := hp
                          have ne_h_x0_had102 : x0 ≠ ad102 := Nat.ne_of_lt (Nat.lt_of_lt_of_le h_x0.lt frad102)
                          have ne_h_x0r0_had102 : x0r0 ≠ ad102 := Nat.ne_of_lt (Nat.lt_of_lt_of_le h_x0r0.lt frad102)
                          have ne_h_x0r0r0_had102 : x0r0r0 ≠ ad102 := Nat.ne_of_lt (Nat.lt_of_lt_of_le h_x0r0r0.lt frad102)
                          have ne_h_x0r0r1_had102 : x0r0r1 ≠ ad102 := Nat.ne_of_lt (Nat.lt_of_lt_of_le h_x0r0r1.lt frad102)
                          have ne_h_x0r0r2_had102 : x0r0r2 ≠ ad102 := Nat.ne_of_lt (Nat.lt_of_lt_of_le h_x0r0r2.lt frad102)
                          have ne_had96_had102 : ad96 ≠ ad102 := Nat.ne_of_lt (Nat.lt_of_lt_of_le had96.lt frad102)
                          have ne_had97_had102 : ad97 ≠ ad102 := Nat.ne_of_lt (Nat.lt_of_lt_of_le had97.lt frad102)
                          have ne_had99_had102 : ad99 ≠ ad102 := Nat.ne_of_lt (Nat.lt_of_lt_of_le had99.lt frad102)
                          have ne_had100_had102 : ad100 ≠ ad102 := Nat.ne_of_lt (Nat.lt_of_lt_of_le had100.lt frad102)
                          have gad102 : s.heap.size ≤ ad102 := Nat.le_trans hF.1 frad102
                          have hB_had102 : dB D ≤ ad102 := by have := hS0.1.2.2.1; omega
                          have ne_h_x0_had103 : x0 ≠ ad103 := Nat.ne_of_lt (Nat.lt_of_lt_of_le h_x0.lt frad103)
                          have ne_h_x0r0_had103 : x0r0 ≠ ad103 := Nat.ne_of_lt (Nat.lt_of_lt_of_le h_x0r0.lt frad103)
                          have ne_h_x0r0r0_had103 : x0r0r0 ≠ ad103 := Nat.ne_of_lt (Nat.lt_of_lt_of_le h_x0r0r0.lt frad103)
                          have ne_h_x0r0r1_had103 : x0r0r1 ≠ ad103 := Nat.ne_of_lt (Nat.lt_of_lt_of_le h_x0r0r1.lt frad103)
                          have ne_h_x0r0r2_had103 : x0r0r2 ≠ ad103 := Nat.ne_of_lt (Nat.lt_of_lt_of_le h_x0r0r2.lt frad103)
                          have ne_had96_had103 : ad96 ≠ ad103 := Nat.ne_of_lt (Nat.lt_of_lt_of_le had96.lt frad103)
                          have ne_had97_had103 : ad97 ≠ ad103 := Nat.ne_of_lt (Nat.lt_of_lt_of_le had97.lt frad103)
                          have ne_had99_had103 : ad99 ≠ ad103 := Nat.ne_of_lt (Nat.lt_of_lt_of_le had99.lt frad103)
                          have ne_had100_had103 : ad100 ≠ ad103 := Nat.ne_of_lt (Nat.lt_of_lt_of_le had100.lt frad103)
                          have gad103 : s.heap.size ≤ ad103 := Nat.le_trans hF.1 frad103
                          have hB_had103 : dB D ≤ ad103 := by have := hS0.1.2.2.1; omega
                          have h_x0 := h_x0.ext hO
                          have h_x0r0 := h_x0r0.ext hO
                          have h_x0r0r0 := h_x0r0r0.ext hO
                          have h_x0r0r1 := h_x0r0r1.ext hO
                          have h_x0r0r2 := h_x0r0r2.ext hO
                          have had96 := had96.ext hO
                          have had97 := had97.ext hO
                          have had99 := had99.ext hO
                          have had100 := had100.ext hO
                          have hF := hF.trans (hO.mono (fun _ _ z => z.elim))
                          refine lv_iconst (v := 1) hx hb dX0_areAngles_800 (by decide) ?_
                          obtain ⟨o104, eo104, h⟩ := bind_step h
                          refine r_cr (r_runV (rest := [.ref ad99]) (As := [.int 1]) hC 1 (m_J5_substring ad102 ad103 0 0 o101.1 o101.2 1 o104 eo104) q1082 q1083 q1084 q45 q1085 (OA.recv hS had102.OA (C := RJ5) rfl) hd_J5_substring rfl ⟨Nat.le_of_ble_eq_true rfl, Nat.le_of_ble_eq_true rfl⟩ hS ⟨had102.OA, had103, lo101_1⟩ hl.1 rfl (Nat.le_of_ble_eq_true rfl) dX0_areAngles_801 ⟨Nat.le_of_ble_eq_true rfl, Nat.le_of_ble_eq_true rfl⟩) hS (fun ad105 H locs hp hS hz => ?_)
                          obtain ⟨ad106, had105, had106, lo104_1, frad105, ne_ad105_ad106, hO⟩ := hp
                          have ne_h_x0_had105 : x0 ≠ ad105 := Nat.ne_of_lt (Nat.lt_of_lt_of_le h_x0.lt frad105)
                          have ne_h_x0r0_had105 : x0r0 ≠ ad105 := Nat.ne_of_lt (Nat.lt_of_lt_of_le h_x0r0.lt frad105)
                          have ne_h_x0r0r0_had105 : x0r0r0 ≠ ad105 := Nat.ne_of_lt (Nat.lt_of_lt_of_le h_x0r0r0.lt frad105)
                          have ne_h_x0r0r1_had105 : x0r0r1 ≠ ad105 := Nat.ne_of_lt (Nat.lt_of_lt_of_le h_x0r0r1.lt frad105)
                          have ne_h_x0r0r2_had105 : x0r0r2 ≠ ad105 := Nat.ne_of_lt (Nat.lt_of_lt_of_le h_x0r0r2.lt frad105)
                          have ne_had96_had105 : ad96 ≠ ad105 := Nat.ne_of_lt (Nat.lt_of_lt_of_le had96.lt frad105)
                          have ne_had97_had105 : ad97 ≠ ad105 := Nat.ne_of_lt (Nat.lt_of_lt_of_le had97.lt frad105)
                          have ne_had99_had105 : ad99 ≠ ad105 := Nat.ne_of_lt (Nat.lt_of_lt_of_le had99.lt frad105)
                          have ne_had100_had105 : ad100 ≠ ad105 := Nat.ne_of_lt (Nat.lt_of_lt_of_le had100.lt frad105)
                          have ne_had102_had105 : ad102 ≠ ad105 := Nat.ne_of_lt (Nat.lt_of_lt_of_le had102.lt frad105)
                          have ne_had103_had105 : ad103 ≠ ad105 := Nat.ne_of_lt (Nat.lt_of_lt_of_le had103.lt frad105)
                          have gad105 : s.heap.size ≤ ad105 := Nat.le_trans hF.1 frad105
                          have hB_had105 : dB D ≤ ad105 := by have := hS0.1.2.2.1; omega
                          have h_x0 := h_x0.ext hO
                          have h_x0r0 := h_x0r0.ext hO
                          have h_x0r0r0 := h_x0r0r0.ext hO
                          have h_x0r0r1 := h_x0r0r1.ext hO
                          have h_x0r0r2 := h_x0r0r2.ext hO
                          have had96 := had96.ext hO
                          have had97 := had97.ext hO
                          have had99 := had99.ext hO
                          have had100 := had100.ext hO
                          have had102 := had102.ext hO
                          have had103 := had103.ext hO
                          have hF := hF.trans (hO.mono (fun _ _ z => z.elim))
                          obtain ⟨o107, eo107, h⟩ := bind_step h
                          refine r_cp (r_runV (rest := []) (As := [.ref ad105]) hC 1 (m_J5_equals ad99 ad100 ad105 ad106 0 0 0 0 o98.1 o98.2 o104.1 o104.2 o107 eo107) q1513 q1442 q1784 q45 q1443 (OA.recv hS had99.OA (C := RJ5) rfl) hd_J5_equals rfl ⟨Nat.le_of_ble_eq_true rfl, Nat.le_of_ble_eq_true rfl⟩ hS ⟨had99.OA, had100, lo98_1, had105.OA, had106, lo104_1, ne_had99_had105⟩ hl.1 rfl (Nat.le_of_ble_eq_true rfl) dX0_areAngles_804 ⟨Nat.le_of_ble_eq_true rfl, Nat.le_of_ble_eq_true rfl⟩) ?_
                          refine r_ifz_eq (tgt := 855) hx hb dX0_areAngles_807 (by decide) (fun c108 => ?_) (fun c108 => ?_)
                          · have h := it_neg h (by rw [c108]; decide)
                            refine W.widen (k := 7052) (n := 72104) (Nat.le_of_ble_eq_true rfl) (Nat.le_of_ble_eq_true rfl) ?_
                            exact HK83 o49.2.2.1 o49.2.2.2 o49.2.1 h H locs hS hF h_x0 h_x0r0 h_x0r0r0 h_x0r0r1 h_x0r0r2 ls (lv_sub hl [0, 1, 2, 3] rfl)
                          · have h := it_pos h (by rw [c108])
                            refine lv_aload_n hx hb dX0_areAngles_810 rfl (lv_at hl 0 rfl) ?_
                            refine lv_bipush (v := 7) hx hb dX0_areAngles_811 (by decide) ?_
                            obtain ⟨o109, eo109, h⟩ := bind_step h
                            refine r_cl (r_runV (rest := []) (As := [.int 7]) hC 1 (m_X0_its x0 x0r0 x0r0r0 x0r0r1 x0r0r2  o49.2.2.1 x0r0r1c o49.2.2.2 o49.2.1 x0r0f4 v45 x0r0f6 7 o109 eo109) q944 q946 qs10 q39 q947 (OA.recv hS h_x0 (C := RX0) rfl) hd_X0_its rfl ⟨Nat.le_of_ble_eq_true rfl, Nat.le_of_ble_eq_true rfl⟩ hS ⟨h_x0, h_x0r0, h_x0r0r0, h_x0r0r1, h_x0r0r2⟩ hl.1 rfl (Nat.le_of_ble_eq_true rfl) dX0_areAngles_813 ⟨Nat.le_of_ble_eq_true rfl, Nat.le_of_ble_eq_true rfl⟩) hS (fun b H locs hp hS hz => ?_)
                            obtain ⟨eb_, hO⟩ := hp
                            rw [eb_]
                            have h_x0 := h_x0.ext hO
                            have h_x0r0 := h_x0r0.ext hO
                            have h_x0r0r0 := h_x0r0r0.ext hO
                            have h_x0r0r1 := h_x0r0r1.ext hO
                            have h_x0r0r2 := h_x0r0r2.ext hO
                            have had96 := had96.ext hO
                            have had97 := had97.ext hO
                            have had99 := had99.ext hO
                            have had100 := had100.ext hO
                            have had102 := had102.ext hO
                            have had103 := had103.ext hO
                            have had105 := had105.ext hO
                            have had106 := had106.ext hO
                            have hF := hF.trans (hO.mono (fun _ _ z => z.elim))
                            refine lv_lload_n hx hb dX0_areAngles_816 rfl (lv_at hl 1 rfl) ?_
                            obtain ⟨v110, ev110, h⟩ := ltl_step h
                            refine r_lneg hx hb ev110 dX0_areAngles_817 ?_
                            obtain ⟨v111, ev111, h⟩ := lti_step h
                            refine r_lcmp hx hb ev111 dX0_areAngles_818 ?_
                            refine lv_if_ne (tgt := 855) hx hb dX0_areAngles_819 (by decide) (fun c112 => ?_) (fun c112 => ?_)
                            · have h := it_neg h c112
                              refine W.widen (k := 7052) (n := 72104) (Nat.le_of_ble_eq_true rfl) (Nat.le_of_ble_eq_true rfl) ?_
                              exact HK83 o49.2.2.1 o49.2.2.2 o49.2.1 h H locs hS hF h_x0 h_x0r0 h_x0r0r0 h_x0r0r1 h_x0r0r2 ls (lv_sub hl [0, 1, 2, 3] rfl)
                            · have h := it_pos h c112
                              refine lv_aload_n hx hb dX0_areAngles_822 rfl (lv_at hl 0 rfl) ?_
                              refine r_get hx hb hts hown hS h_x0 rfl in_X0 0 (by decide) q936 rfl (v := .ref x0r0) rfl dX0_areAngles_823 ?_
                              refine lv_bipush (v := 7) hx hb dX0_areAngles_826 (by decide) ?_
                              refine lv_iconst (v := 0) hx hb dX0_areAngles_828 (by decide) ?_
                              refine lv_iconst (v := 1) hx hb dX0_areAngles_829 (by decide) ?_
                              obtain ⟨o113, eo113, h⟩ := bind_step h
                              refine r_cz (r_runV (rest := []) (As := [.int 7, .int 0, .int 1]) hC 3 (m_X1_angleSame x0r0 x0r0r0 x0r0r1 x0r0r2  o49.2.2.1 x0r0r1c o49.2.2.2 o49.2.1 x0r0f4 v45 x0r0f6 7 0 1 o113 eo113) q1509 q1510 q1511 q46 q1512 (OA.recv hS h_x0r0.OA (C := RX1) rfl) hd_X1_angleSame rfl ⟨Nat.le_of_ble_eq_true rfl, Nat.le_of_ble_eq_true rfl⟩ hS ⟨h_x0r0, h_x0r0r0, h_x0r0r1, h_x0r0r2⟩ hl.1 rfl (Nat.le_of_ble_eq_true rfl) dX0_areAngles_830 ⟨Nat.le_of_ble_eq_true rfl, Nat.le_of_ble_eq_true rfl⟩) hS (fun b H locs hp hS hz => ?_)
                              obtain ⟨eb_, hO⟩ := hp
                              rw [eb_]
                              have h_x0 := h_x0.ext hO
                              have h_x0r0 := h_x0r0.ext hO
                              have h_x0r0r0 := h_x0r0r0.ext hO
                              have h_x0r0r1 := h_x0r0r1.ext hO
                              have h_x0r0r2 := h_x0r0r2.ext hO
                              have had96 := had96.ext hO
                              have had97 := had97.ext hO
                              have had99 := had99.ext hO
                              have had100 := had100.ext hO
                              have had102 := had102.ext hO
                              have had103 := had103.ext hO
                              have had105 := had105.ext hO
                              have had106 := had106.ext hO
                              have hF := hF.trans (hO.mono (fun _ _ z => z.elim))
                              refine r_ifz_ne (tgt := 855) hx hb dX0_areAngles_833 (by decide) (fun c114 => ?_) (fun c114 => ?_)
                              · have h := it_pos h (by rw [c114])
                                refine W.widen (k := 7052) (n := 72104) (Nat.le_of_ble_eq_true rfl) (Nat.le_of_ble_eq_true rfl) ?_
                                exact HK83 o49.2.2.1 o49.2.2.2 o49.2.1 h H locs hS hF h_x0 h_x0r0 h_x0r0r0 h_x0r0r1 h_x0r0r2 ls (lv_sub hl [0, 1, 2, 3] rfl)
                              · have h := it_neg h (by rw [c114]; decide)
                                refine lv_aload_n hx hb dX0_areAngles_836 rfl (lv_at hl 0 rfl) ?_
                                refine r_get hx hb hts hown hS h_x0 rfl in_X0 0 (by decide) q936 rfl (v := .ref x0r0) rfl dX0_areAngles_837 ?_
                                refine lv_bipush (v := 7) hx hb dX0_areAngles_840 (by decide) ?_
                                refine lv_bipush (v := 6) hx hb dX0_areAngles_842 (by decide) ?_
                                obtain ⟨o115, eo115, h⟩ := bind_step h
                                refine r_ci (r_runV (rest := []) (As := [.int 7, .int 6]) hC 2 (m_X1_angleCopy x0r0 x0r0r0 x0r0r1 x0r0r2  o49.2.2.1 x0r0r1c o49.2.2.2 o49.2.1 x0r0f4 v45 x0r0f6 7 6 o115 eo115) q1514 q1515 q1516 q46 q1517 (OA.recv hS h_x0r0.OA (C := RX1) rfl) hd_X1_angleCopy rfl ⟨Nat.le_of_ble_eq_true rfl, Nat.le_of_ble_eq_true rfl⟩ hS ⟨h_x0r0, hB_h_x0r0, h_x0r0r0, hB_h_x0r0r0, h_x0r0r1, h_x0r0r2, hB_h_x0r0r2, ne_x0r0_x0r0r0, ne_x0r0_x0r0r1, ne_x0r0_x0r0r2, ne_x0r0r0_x0r0r1, ne_x0r0r0_x0r0r2, ne_x0r0r1_x0r0r2⟩ hl.1 rfl (Nat.le_of_ble_eq_true rfl) dX0_areAngles_844 ⟨Nat.le_of_ble_eq_true rfl, Nat.le_of_ble_eq_true rfl⟩) hS (fun b H locs hp hS hz => ?_)
                                obtain ⟨rfl, h_x0r0, h_x0r0r0, h_x0r0r2, hO⟩ := hp
                                have h_x0 := h_x0.off hO (fun z => by rcases z with z | z | z <;> first | exact ne_x0_x0r0 z | exact ne_x0_x0r0r0 z | exact ne_x0_x0r0r2 z)
                                have h_x0r0r1 := h_x0r0r1.off hO (fun z => by rcases z with z | z | z <;> first | exact (Ne.symm ne_x0r0_x0r0r1) z | exact (Ne.symm ne_x0r0r0_x0r0r1) z | exact ne_x0r0r1_x0r0r2 z)
                                have had96 := had96.off hO (fun z => by rcases z with z | z | z <;> first | exact (Ne.symm ne_h_x0r0_had96) z | exact (Ne.symm ne_h_x0r0r0_had96) z | exact (Ne.symm ne_h_x0r0r2_had96) z)
                                have had97 := had97.off hO (fun z => by rcases z with z | z | z <;> first | exact (Ne.symm ne_h_x0r0_had97) z | exact (Ne.symm ne_h_x0r0r0_had97) z | exact (Ne.symm ne_h_x0r0r2_had97) z)
                                have had99 := had99.off hO (fun z => by rcases z with z | z | z <;> first | exact (Ne.symm ne_h_x0r0_had99) z | exact (Ne.symm ne_h_x0r0r0_had99) z | exact (Ne.symm ne_h_x0r0r2_had99) z)
                                have had102 := had102.off hO (fun z => by rcases z with z | z | z <;> first | exact (Ne.symm ne_h_x0r0_had102) z | exact (Ne.symm ne_h_x0r0r0_had102) z | exact (Ne.symm ne_h_x0r0r2_had102) z)
                                have had103 := had103.off hO (fun z => by rcases z with z | z | z <;> first | exact (Ne.symm ne_h_x0r0_had103) z | exact (Ne.symm ne_h_x0r0r0_had103) z | exact (Ne.symm ne_h_x0r0r2_had103) z)
                                have had105 := had105.off hO (fun z => by rcases z with z | z | z <;> first | exact (Ne.symm ne_h_x0r0_had105) z | exact (Ne.symm ne_h_x0r0r0_had105) z | exact (Ne.symm ne_h_x0r0r2_had105) z)
                                have hF := hF.fresh hO (fun a ha z => by
                                  rcases z with z | z | z
                                  · exact Or.inl z
                                  · exact Or.inr (Or.inl z)
                                  · exact Or.inr (Or.inr (z)))
                                refine lv_iconst (v := 1) hx hb dX0_areAngles_847 (by decide) ?_
                                refine lv_icmp_ne (tgt := 855) hx hb dX0_areAngles_848 (by decide) (fun c116 => ?_) (fun c116 => ?_)
                                · have h := it_neg h c116
                                  exact HK83 o115.2.2.1 o115.2.2.2 o115.2.1 h H locs hS hF h_x0 h_x0r0 h_x0r0r0 h_x0r0r1 h_x0r0r2 ls (lv_sub hl [0, 1, 2, 3] rfl)
                                · have h := it_pos h c116
                                  refine lv_iconst (v := 1) hx hb dX0_areAngles_851 (by decide) ?_
                                  refine lv_goto (tgt := 856) hx hb dX0_areAngles_852 (by decide) ?_
                                  exact HK55 o115.2.2.1 o115.2.2.2 o115.2.1 true h H locs hS hF h_x0 h_x0r0 h_x0r0r0 h_x0r0r1 h_x0r0r2 ls (lv_sub hl [0, 1, 2, 3] rfl)
                      clear eK93
                      refine lv_icmp_ne (tgt := 775) hx hb dX0_areAngles_768 (by decide) (fun c117 => ?_) (fun c117 => ?_)
                      · have h := it_neg h c117
                        refine lv_iconst (v := 1) hx hb dX0_areAngles_775 (by decide) ?_
                        exact HK93 1 h H locs hS hF h_x0 h_x0r0 h_x0r0r0 h_x0r0r1 h_x0r0r2 ls (lv_sub hl [0, 1, 2, 3] rfl)
                      · have h := it_pos h c117
                        refine lv_iconst (v := (-1)) hx hb dX0_areAngles_771 (by decide) ?_
                        refine lv_goto (tgt := 776) hx hb dX0_areAngles_772 (by decide) ?_
                        exact HK93 (-1) h H locs hS hF h_x0 h_x0r0 h_x0r0r0 h_x0r0r1 h_x0r0r2 ls (lv_sub hl [0, 1, 2, 3] rfl)
                  clear eK90
                  refine lv_icmp_ne (tgt := 759) hx hb dX0_areAngles_752 (by decide) (fun c118 => ?_) (fun c118 => ?_)
                  · have h := it_neg h c118
                    refine lv_iconst (v := 0) hx hb dX0_areAngles_759 (by decide) ?_
                    exact HK90 false h H locs hS hF h_x0 h_x0r0 h_x0r0r0 h_x0r0r1 h_x0r0r2 ls (lv_sub hl [3, 4, 5, 1, 0] rfl)
                  · have h := it_pos h c118
                    refine lv_iconst (v := 1) hx hb dX0_areAngles_755 (by decide) ?_
                    refine lv_goto (tgt := 760) hx hb dX0_areAngles_756 (by decide) ?_
                    exact HK90 true h H locs hS hF h_x0 h_x0r0 h_x0r0r0 h_x0r0r1 h_x0r0r2 ls (lv_sub hl [3, 4, 5, 1, 0] rfl)
              clear eK47
              obtain ⟨K123, eK123, h⟩ := lt_step h
              have HK123 : ∀ (f119 : Nat → UInt64) (f120 : Nat → Int32) (v121 : Int32) (v122 : Int32) (h : K123 f119 f120 v121 v122 = some r) (H : Heap) (locs : List Loc) (hS : St D s H locs) (hF : Off (fun a => a = x0r0 ∨ a = x0r0r0 ∨ a = x0r0r2) s.heap H) (h_x0 : OA D 1 x0 [.ref x0r0] H) (h_x0r0 : ON D 0 x0r0 [.ref x0r0r0, .ref x0r0r1, .ref x0r0r2, .int v121, .int x0r0f4, .int v122, .int x0r0f6] H) (h_x0r0r0 : aD D x0r0r0 8 f119 H) (h_x0r0r1 : aD D x0r0r1 8 x0r0r1c H) (h_x0r0r2 : aZ D x0r0r2 8 f120 H) (ls : Array Slot) (hl : lv_has ls 19 [(0, .ref x0), (3, .long o5), (5, .long o6)]), W p l e R_X0_areAngles s m A below meth c H locs 6214 63526 Q (F0 m 693 ls []) := by
                intro f119 f120 v121 v122 h H locs hS hF h_x0 h_x0r0 h_x0r0r0 h_x0r0r1 h_x0r0r2 ls hl
                subst eK123
                refine lv_iconst (v := 0) hx hb dX0_areAngles_693 (by decide) ?_
                exact HK47 f119 f120 v121 v122 false h H locs hS hF h_x0 h_x0r0 h_x0r0r0 h_x0r0r1 h_x0r0r2 ls (lv_sub hl [0, 1, 2] rfl)
              clear eK123
              refine r_ifz_eq (tgt := 693) hx hb dX0_areAngles_551 (by decide) (fun c124 => ?_) (fun c124 => ?_)
              · have h := it_neg h (by rw [c124]; decide)
                refine W.widen (k := 6214) (n := 63526) (Nat.le_of_ble_eq_true rfl) (Nat.le_of_ble_eq_true rfl) ?_
                exact HK123 o37.2.2.2.1 o37.2.2.2.2 o37.2.1 o37.2.2.1 h H locs hS hF h_x0 h_x0r0 h_x0r0r0 h_x0r0r1 h_x0r0r2 ls (lv_sub hl [1, 2, 3] rfl)
              · have h := it_pos h (by rw [c124])
                refine lv_lload_n hx hb dX0_areAngles_554 rfl (lv_at hl 2 rfl) ?_
                obtain ⟨o125, eo125, h⟩ := bind_step h
                refine r_cp (r_runS (rest := []) (As := [.long o5]) hC 1 (m_X0_size   o5 o125 eo125) q1522 q1523 q39 q1524 hd_X0_size rfl ⟨Nat.le_of_ble_eq_true rfl, Nat.le_of_ble_eq_true rfl⟩ hS trivial hl.1 rfl (Nat.le_of_ble_eq_true rfl) dX0_areAngles_555 ⟨Nat.le_of_ble_eq_true rfl, Nat.le_of_ble_eq_true rfl⟩) ?_
                refine lv_ldc2 hx hb (v := 32768) hown (hts _ q1525) dX0_areAngles_558 ?_
                obtain ⟨v126, ev126, h⟩ := lti_step h
                refine r_lcmp hx hb ev126 dX0_areAngles_561 ?_
                obtain ⟨K131, eK131, h⟩ := lt_step h
                have HK131 : ∀ (f127 : Nat → UInt64) (f128 : Nat → Int32) (v129 : Int32) (v130 : Int32) (h : K131 f127 f128 v129 v130 = some r) (H : Heap) (locs : List Loc) (hS : St D s H locs) (hF : Off (fun a => a = x0r0 ∨ a = x0r0r0 ∨ a = x0r0r2) s.heap H) (h_x0 : OA D 1 x0 [.ref x0r0] H) (h_x0r0 : ON D 0 x0r0 [.ref x0r0r0, .ref x0r0r1, .ref x0r0r2, .int v129, .int x0r0f4, .int v130, .int x0r0f6] H) (h_x0r0r0 : aD D x0r0r0 8 f127 H) (h_x0r0r1 : aD D x0r0r1 8 x0r0r1c H) (h_x0r0r2 : aZ D x0r0r2 8 f128 H) (ls : Array Slot) (hl : lv_has ls 19 [(0, .ref x0), (3, .long o5), (5, .long o6)]), W p l e R_X0_areAngles s m A below meth c H locs 6214 63526 Q (F0 m 689 ls []) := by
                  intro f127 f128 v129 v130 h H locs hS hF h_x0 h_x0r0 h_x0r0r0 h_x0r0r1 h_x0r0r2 ls hl
                  subst eK131
                  refine lv_iconst (v := 1) hx hb dX0_areAngles_689 (by decide) ?_
                  refine lv_goto (tgt := 694) hx hb dX0_areAngles_690 (by decide) ?_
                  exact HK47 f127 f128 v129 v130 true h H locs hS hF h_x0 h_x0r0 h_x0r0r0 h_x0r0r1 h_x0r0r2 ls (lv_sub hl [0, 1, 2] rfl)
                clear eK131
                obtain ⟨K132, eK132, h⟩ := lt_step h
                have HK132 : ∀  (h : K132 () = some r) (H : Heap) (locs : List Loc) (hS : St D s H locs) (hF : Off (fun a => a = x0r0 ∨ a = x0r0r0 ∨ a = x0r0r2) s.heap H) (h_x0 : OA D 1 x0 [.ref x0r0] H) (h_x0r0 : ON D 0 x0r0 [.ref x0r0r0, .ref x0r0r1, .ref x0r0r2, .int o37.2.1, .int x0r0f4, .int o37.2.2.1, .int x0r0f6] H) (h_x0r0r0 : aD D x0r0r0 8 o37.2.2.2.1 H) (h_x0r0r1 : aD D x0r0r1 8 x0r0r1c H) (h_x0r0r2 : aZ D x0r0r2 8 o37.2.2.2.2 H) (ls : Array Slot) (hl : lv_has ls 19 [(0, .ref x0), (3, .long o5), (5, .long o6), (7, .int o33), (14, .int o37.1)]), W p l e R_X0_areAngles s m A below meth c H locs 5922 60390 Q (F0 m 577 ls []) := by
                  intro h H locs hS hF h_x0 h_x0r0 h_x0r0r0 h_x0r0r1 h_x0r0r2 ls hl
                  subst eK132
                  refine lv_iload hx hb dX0_areAngles_577 (lv_at hl 4 rfl) ?_
                  refine lv_bipush (v := (-9)) hx hb dX0_areAngles_579 (by decide) ?_
                  refine lv_icmp_ne (tgt := 693) hx hb dX0_areAngles_581 (by decide) (fun c133 => ?_) (fun c133 => ?_)
                  · have h := it_neg h c133
                    refine W.widen (k := 6214) (n := 63526) (Nat.le_of_ble_eq_true rfl) (Nat.le_of_ble_eq_true rfl) ?_
                    exact HK123 o37.2.2.2.1 o37.2.2.2.2 o37.2.1 o37.2.2.1 h H locs hS hF h_x0 h_x0r0 h_x0r0r0 h_x0r0r1 h_x0r0r2 ls (lv_sub hl [0, 1, 2] rfl)
                  · have h := it_pos h c133
                    refine lv_aload_n hx hb dX0_areAngles_584 rfl (lv_at hl 0 rfl) ?_
                    refine lv_bipush (v := 6) hx hb dX0_areAngles_585 (by decide) ?_
                    obtain ⟨o134, eo134, h⟩ := bind_step h
                    refine r_cl (r_runV (rest := []) (As := [.int 6]) hC 1 (m_X0_its x0 x0r0 x0r0r0 x0r0r1 x0r0r2  o37.2.2.2.1 x0r0r1c o37.2.2.2.2 o37.2.1 x0r0f4 o37.2.2.1 x0r0f6 6 o134 eo134) q944 q946 qs10 q39 q947 (OA.recv hS h_x0 (C := RX0) rfl) hd_X0_its rfl ⟨Nat.le_of_ble_eq_true rfl, Nat.le_of_ble_eq_true rfl⟩ hS ⟨h_x0, h_x0r0, h_x0r0r0, h_x0r0r1, h_x0r0r2⟩ hl.1 rfl (Nat.le_of_ble_eq_true rfl) dX0_areAngles_587 ⟨Nat.le_of_ble_eq_true rfl, Nat.le_of_ble_eq_true rfl⟩) hS (fun b H locs hp hS hz => ?_)
                    obtain ⟨eb_, hO⟩ := hp
                    rw [eb_]
                    have h_x0 := h_x0.ext hO
                    have h_x0r0 := h_x0r0.ext hO
                    have h_x0r0r0 := h_x0r0r0.ext hO
                    have h_x0r0r1 := h_x0r0r1.ext hO
                    have h_x0r0r2 := h_x0r0r2.ext hO
                    have hF := hF.trans (hO.mono (fun _ _ z => z.elim))
                    refine lv_lload_n hx hb dX0_areAngles_590 rfl (lv_at hl 1 rfl) ?_
                    obtain ⟨v135, ev135, h⟩ := lti_step h
                    refine r_lcmp hx hb ev135 dX0_areAngles_591 ?_
                    refine lv_if_ne (tgt := 693) hx hb dX0_areAngles_592 (by decide) (fun c136 => ?_) (fun c136 => ?_)
                    · have h := it_neg h c136
                      refine W.widen (k := 6214) (n := 63526) (Nat.le_of_ble_eq_true rfl) (Nat.le_of_ble_eq_true rfl) ?_
                      exact HK123 o37.2.2.2.1 o37.2.2.2.2 o37.2.1 o37.2.2.1 h H locs hS hF h_x0 h_x0r0 h_x0r0r0 h_x0r0r1 h_x0r0r2 ls (lv_sub hl [0, 1, 2] rfl)
                    · have h := it_pos h c136
                      refine lv_aload_n hx hb dX0_areAngles_595 rfl (lv_at hl 0 rfl) ?_
                      refine r_get hx hb hts hown hS h_x0 rfl in_X0 0 (by decide) q936 rfl (v := .ref x0r0) rfl dX0_areAngles_596 ?_
                      refine lv_iconst (v := 2) hx hb dX0_areAngles_599 (by decide) ?_
                      obtain ⟨o137, eo137, h⟩ := bind_step h
                      refine r_cp (r_runV (rest := []) (As := [.int 2]) hC 1 (m_X1_house x0r0 x0r0r0 x0r0r1 x0r0r2  o37.2.2.2.1 x0r0r1c o37.2.2.2.2 o37.2.1 x0r0f4 o37.2.2.1 x0r0f6 2 o137 eo137) q1248 q1249 q1250 q46 q1251 (OA.recv hS h_x0r0.OA (C := RX1) rfl) hd_X1_house rfl ⟨Nat.le_of_ble_eq_true rfl, Nat.le_of_ble_eq_true rfl⟩ hS ⟨h_x0r0, h_x0r0r0, h_x0r0r1, h_x0r0r2⟩ hl.1 rfl (Nat.le_of_ble_eq_true rfl) dX0_areAngles_600 ⟨Nat.le_of_ble_eq_true rfl, Nat.le_of_ble_eq_true rfl⟩) ?_
                      refine lv_iload hx hb dX0_areAngles_603 (lv_at hl 3 rfl) ?_
                      refine lv_iconst (v := 1) hx hb dX0_areAngles_605 (by decide) ?_
                      obtain ⟨v138, ev138, h⟩ := lti_step h
                      refine r_iadd hx hb ev138 dX0_areAngles_606 ?_
                      refine lv_icmp_ne (tgt := 693) hx hb dX0_areAngles_607 (by decide) (fun c139 => ?_) (fun c139 => ?_)
                      · have h := it_neg h c139
                        refine W.widen (k := 6214) (n := 63526) (Nat.le_of_ble_eq_true rfl) (Nat.le_of_ble_eq_true rfl) ?_
                        exact HK123 o37.2.2.2.1 o37.2.2.2.2 o37.2.1 o37.2.2.1 h H locs hS hF h_x0 h_x0r0 h_x0r0r0 h_x0r0r1 h_x0r0r2 ls (lv_sub hl [0, 1, 2] rfl)
                      · have h := it_pos h c139
                        refine lv_goto (tgt := 689) hx hb dX0_areAngles_610 (by decide) ?_
                        refine W.widen (k := 6214) (n := 63526) (Nat.le_of_ble_eq_true rfl) (Nat.le_of_ble_eq_true rfl) ?_
                        exact HK131 o37.2.2.2.1 o37.2.2.2.2 o37.2.1 o37.2.2.1 h H locs hS hF h_x0 h_x0r0 h_x0r0r0 h_x0r0r1 h_x0r0r2 ls (lv_sub hl [0, 1, 2] rfl)
                clear eK132
                refine lv_if_gt (tgt := 577) hx hb dX0_areAngles_562 (by decide) (fun c140 => ?_) (fun c140 => ?_)
                · have h := it_pos h c140
                  exact HK132  h H locs hS hF h_x0 h_x0r0 h_x0r0r0 h_x0r0r1 h_x0r0r2 ls (lv_sub hl [1, 2, 3, 4, 7] rfl)
                · have h := it_neg h c140
                  refine lv_lload hx hb dX0_areAngles_565 (lv_at hl 0 rfl) ?_
                  obtain ⟨o141, eo141, h⟩ := bind_step h
                  refine r_cp (r_runS (rest := []) (As := [.long v41]) hC 1 (m_X0_size   v41 o141 eo141) q1522 q1523 q39 q1524 hd_X0_size rfl ⟨Nat.le_of_ble_eq_true rfl, Nat.le_of_ble_eq_true rfl⟩ hS trivial hl.1 rfl (Nat.le_of_ble_eq_true rfl) dX0_areAngles_567 ⟨Nat.le_of_ble_eq_true rfl, Nat.le_of_ble_eq_true rfl⟩) ?_
                  refine lv_ldc2 hx hb (v := 32768) hown (hts _ q1525) dX0_areAngles_570 ?_
                  obtain ⟨v142, ev142, h⟩ := lti_step h
                  refine r_lcmp hx hb ev142 dX0_areAngles_573 ?_
                  refine lv_if_le (tgt := 613) hx hb dX0_areAngles_574 (by decide) (fun c143 => ?_) (fun c143 => ?_)
                  · have h := it_pos h c143
                    refine lv_iload hx hb dX0_areAngles_613 (lv_at hl 7 rfl) ?_
                    refine lv_iconst (v := 1) hx hb dX0_areAngles_615 (by decide) ?_
                    refine lv_icmp_ne (tgt := 693) hx hb dX0_areAngles_616 (by decide) (fun c144 => ?_) (fun c144 => ?_)
                    · have h := it_neg h c144
                      refine W.widen (k := 6214) (n := 63526) (Nat.le_of_ble_eq_true rfl) (Nat.le_of_ble_eq_true rfl) ?_
                      exact HK123 o37.2.2.2.1 o37.2.2.2.2 o37.2.1 o37.2.2.1 h H locs hS hF h_x0 h_x0r0 h_x0r0r0 h_x0r0r1 h_x0r0r2 ls (lv_sub hl [1, 2, 3] rfl)
                    · have h := it_pos h c144
                      refine lv_aload_n hx hb dX0_areAngles_619 rfl (lv_at hl 1 rfl) ?_
                      refine lv_bipush (v := 6) hx hb dX0_areAngles_620 (by decide) ?_
                      obtain ⟨o145, eo145, h⟩ := bind_step h
                      refine r_cl (r_runV (rest := []) (As := [.int 6]) hC 1 (m_X0_its x0 x0r0 x0r0r0 x0r0r1 x0r0r2  o37.2.2.2.1 x0r0r1c o37.2.2.2.2 o37.2.1 x0r0f4 o37.2.2.1 x0r0f6 6 o145 eo145) q944 q946 qs10 q39 q947 (OA.recv hS h_x0 (C := RX0) rfl) hd_X0_its rfl ⟨Nat.le_of_ble_eq_true rfl, Nat.le_of_ble_eq_true rfl⟩ hS ⟨h_x0, h_x0r0, h_x0r0r0, h_x0r0r1, h_x0r0r2⟩ hl.1 rfl (Nat.le_of_ble_eq_true rfl) dX0_areAngles_622 ⟨Nat.le_of_ble_eq_true rfl, Nat.le_of_ble_eq_true rfl⟩) hS (fun b H locs hp hS hz => ?_)
                      obtain ⟨eb_, hO⟩ := hp
                      rw [eb_]
                      have h_x0 := h_x0.ext hO
                      have h_x0r0 := h_x0r0.ext hO
                      have h_x0r0r0 := h_x0r0r0.ext hO
                      have h_x0r0r1 := h_x0r0r1.ext hO
                      have h_x0r0r2 := h_x0r0r2.ext hO
                      have hF := hF.trans (hO.mono (fun _ _ z => z.elim))
                      refine lv_lload hx hb dX0_areAngles_625 (lv_at hl 0 rfl) ?_
                      obtain ⟨v146, ev146, h⟩ := lti_step h
                      refine r_lcmp hx hb ev146 dX0_areAngles_627 ?_
                      refine lv_if_ne (tgt := 693) hx hb dX0_areAngles_628 (by decide) (fun c147 => ?_) (fun c147 => ?_)
                      · have h := it_neg h c147
                        refine W.widen (k := 6214) (n := 63526) (Nat.le_of_ble_eq_true rfl) (Nat.le_of_ble_eq_true rfl) ?_
                        exact HK123 o37.2.2.2.1 o37.2.2.2.2 o37.2.1 o37.2.2.1 h H locs hS hF h_x0 h_x0r0 h_x0r0r0 h_x0r0r1 h_x0r0r2 ls (lv_sub hl [1, 2, 3] rfl)
                      · have h := it_pos h c147
                        refine lv_aload_n hx hb dX0_areAngles_631 rfl (lv_at hl 1 rfl) ?_
                        refine r_get hx hb hts hown hS h_x0 rfl in_X0 0 (by decide) q936 rfl (v := .ref x0r0) rfl dX0_areAngles_632 ?_
                        refine lv_iconst (v := 0) hx hb dX0_areAngles_635 (by decide) ?_
                        refine lv_bipush (v := 6) hx hb dX0_areAngles_636 (by decide) ?_
                        refine lv_iconst (v := 0) hx hb dX0_areAngles_638 (by decide) ?_
                        obtain ⟨o148, eo148, h⟩ := bind_step h
                        refine r_ci (r_runV (rest := []) (As := [.int 0, .int 6, .int 0]) hC 3 (m_X1_angleOrder x0r0 x0r0r0 x0r0r1 x0r0r2  o37.2.2.2.1 x0r0r1c o37.2.2.2.2 o37.2.1 x0r0f4 o37.2.2.1 x0r0f6 0 6 0 o148 eo148) q1536 q1537 q1538 q46 q1539 (OA.recv hS h_x0r0.OA (C := RX1) rfl) hd_X1_angleOrder rfl ⟨Nat.le_of_ble_eq_true rfl, Nat.le_of_ble_eq_true rfl⟩ hS ⟨h_x0r0, h_x0r0r0, h_x0r0r1, h_x0r0r2⟩ hl.1 rfl (Nat.le_of_ble_eq_true rfl) dX0_areAngles_639 ⟨Nat.le_of_ble_eq_true rfl, Nat.le_of_ble_eq_true rfl⟩) hS (fun b H locs hp hS hz => ?_)
                        obtain ⟨eb_, hO⟩ := hp
                        rw [eb_]
                        have h_x0 := h_x0.ext hO
                        have h_x0r0 := h_x0r0.ext hO
                        have h_x0r0r0 := h_x0r0r0.ext hO
                        have h_x0r0r1 := h_x0r0r1.ext hO
                        have h_x0r0r2 := h_x0r0r2.ext hO
                        have hF := hF.trans (hO.mono (fun _ _ z => z.elim))
                        refine lv_iload hx hb dX0_areAngles_642 (lv_at hl 6 rfl) ?_
                        obtain ⟨K150, eK150, h⟩ := lt_step h
                        have HK150 : ∀ (v149 : Int32) (h : K150 v149 = some r) (H : Heap) (locs : List Loc) (hS : St D s H locs) (hF : Off (fun a => a = x0r0 ∨ a = x0r0r0 ∨ a = x0r0r2) s.heap H) (h_x0 : OA D 1 x0 [.ref x0r0] H) (h_x0r0 : ON D 0 x0r0 [.ref x0r0r0, .ref x0r0r1, .ref x0r0r2, .int o37.2.1, .int x0r0f4, .int o37.2.2.1, .int x0r0f6] H) (h_x0r0r0 : aD D x0r0r0 8 o37.2.2.2.1 H) (h_x0r0r1 : aD D x0r0r1 8 x0r0r1c H) (h_x0r0r2 : aZ D x0r0r2 8 o37.2.2.2.2 H) (ls : Array Slot) (hl : lv_has ls 19 [(0, .ref x0), (3, .long o5), (5, .long o6), (13, .int (bI v35))]), W p l e R_X0_areAngles s m A below meth c H locs 5935 60652 Q (F0 m 652 ls [.int v149, .int o148]) := by
                          intro v149 h H locs hS hF h_x0 h_x0r0 h_x0r0r0 h_x0r0r1 h_x0r0r2 ls hl
                          subst eK150
                          refine lv_icmp_ne (tgt := 693) hx hb dX0_areAngles_652 (by decide) (fun c151 => ?_) (fun c151 => ?_)
                          · have h := it_neg h c151
                            refine W.widen (k := 6214) (n := 63526) (Nat.le_of_ble_eq_true rfl) (Nat.le_of_ble_eq_true rfl) ?_
                            exact HK123 o37.2.2.2.1 o37.2.2.2.2 o37.2.1 o37.2.2.1 h H locs hS hF h_x0 h_x0r0 h_x0r0r0 h_x0r0r1 h_x0r0r2 ls (lv_sub hl [0, 1, 2] rfl)
                          · have h := it_pos h c151
                            refine lv_aload_n hx hb dX0_areAngles_655 rfl (lv_at hl 0 rfl) ?_
                            refine r_get hx hb hts hown hS h_x0 rfl in_X0 0 (by decide) q936 rfl (v := .ref x0r0) rfl dX0_areAngles_656 ?_
                            refine lv_bipush (v := 6) hx hb dX0_areAngles_659 (by decide) ?_
                            refine lv_iload hx hb dX0_areAngles_661 (lv_at hl 3 rfl) ?_
                            obtain ⟨K153, eK153, h⟩ := lt_step h
                            have HK153 : ∀ (v152 : Bool) (h : K153 v152 = some r) (H : Heap) (locs : List Loc) (hS : St D s H locs) (hF : Off (fun a => a = x0r0 ∨ a = x0r0r0 ∨ a = x0r0r2) s.heap H) (h_x0 : OA D 1 x0 [.ref x0r0] H) (h_x0r0 : ON D 0 x0r0 [.ref x0r0r0, .ref x0r0r1, .ref x0r0r2, .int o37.2.1, .int x0r0f4, .int o37.2.2.1, .int x0r0f6] H) (h_x0r0r0 : aD D x0r0r0 8 o37.2.2.2.1 H) (h_x0r0r1 : aD D x0r0r1 8 x0r0r1c H) (h_x0r0r2 : aZ D x0r0r2 8 o37.2.2.2.2 H) (ls : Array Slot) (hl : lv_has ls 19 [(0, .ref x0), (3, .long o5), (5, .long o6)]), W p l e R_X0_areAngles s m A below meth c H locs 5935 60652 Q (F0 m 671 ls [.int (bI v152), .int 6, .ref x0r0]) := by
                              intro v152 h H locs hS hF h_x0 h_x0r0 h_x0r0r0 h_x0r0r1 h_x0r0r2 ls hl
                              subst eK153
                              obtain ⟨o154, eo154, h⟩ := bind_step h
                              refine r_ci (r_runV (rest := []) (As := [.int 6, .int (bI v152)]) hC 2 (m_X1_angleStep x0r0 x0r0r0 x0r0r1 x0r0r2  o37.2.2.2.1 x0r0r1c o37.2.2.2.2 o37.2.1 x0r0f4 o37.2.2.1 x0r0f6 6 v152 o154 eo154) q1532 q1533 q1534 q46 q1535 (OA.recv hS h_x0r0.OA (C := RX1) rfl) hd_X1_angleStep rfl ⟨Nat.le_of_ble_eq_true rfl, Nat.le_of_ble_eq_true rfl⟩ hS ⟨h_x0r0, hB_h_x0r0, h_x0r0r0, hB_h_x0r0r0, h_x0r0r1, h_x0r0r2, hB_h_x0r0r2, ne_x0r0_x0r0r0, ne_x0r0_x0r0r1, ne_x0r0_x0r0r2, ne_x0r0r0_x0r0r1, ne_x0r0r0_x0r0r2, ne_x0r0r1_x0r0r2⟩ hl.1 rfl (Nat.le_of_ble_eq_true rfl) dX0_areAngles_671 ⟨Nat.le_of_ble_eq_true rfl, Nat.le_of_ble_eq_true rfl⟩) hS (fun b H locs hp hS hz => ?_)
                              obtain ⟨rfl, h_x0r0, h_x0r0r0, h_x0r0r2, hO⟩ := hp
                              have h_x0 := h_x0.off hO (fun z => by rcases z with z | z | z <;> first | exact ne_x0_x0r0 z | exact ne_x0_x0r0r0 z | exact ne_x0_x0r0r2 z)
                              have h_x0r0r1 := h_x0r0r1.off hO (fun z => by rcases z with z | z | z <;> first | exact (Ne.symm ne_x0r0_x0r0r1) z | exact (Ne.symm ne_x0r0r0_x0r0r1) z | exact ne_x0r0r1_x0r0r2 z)
                              have hF := hF.fresh hO (fun a ha z => by
                                rcases z with z | z | z
                                · exact Or.inl z
                                · exact Or.inr (Or.inl z)
                                · exact Or.inr (Or.inr (z)))
                              refine lv_iconst (v := 1) hx hb dX0_areAngles_674 (by decide) ?_
                              refine lv_icmp_ne (tgt := 693) hx hb dX0_areAngles_675 (by decide) (fun c155 => ?_) (fun c155 => ?_)
                              · have h := it_neg h c155
                                refine W.widen (k := 6214) (n := 63526) (Nat.le_of_ble_eq_true rfl) (Nat.le_of_ble_eq_true rfl) ?_
                                exact HK123 o154.2.2.2.1 o154.2.2.2.2 o154.2.1 o154.2.2.1 h H locs hS hF h_x0 h_x0r0 h_x0r0r0 h_x0r0r1 h_x0r0r2 ls (lv_sub hl [0, 1, 2] rfl)
                              · have h := it_pos h c155
                                refine lv_aload_n hx hb dX0_areAngles_678 rfl (lv_at hl 0 rfl) ?_
                                refine lv_bipush (v := 6) hx hb dX0_areAngles_679 (by decide) ?_
                                obtain ⟨o156, eo156, h⟩ := bind_step h
                                refine r_cl (r_runV (rest := []) (As := [.int 6]) hC 1 (m_X0_its x0 x0r0 x0r0r0 x0r0r1 x0r0r2  o154.2.2.2.1 x0r0r1c o154.2.2.2.2 o154.2.1 x0r0f4 o154.2.2.1 x0r0f6 6 o156 eo156) q944 q946 qs10 q39 q947 (OA.recv hS h_x0 (C := RX0) rfl) hd_X0_its rfl ⟨Nat.le_of_ble_eq_true rfl, Nat.le_of_ble_eq_true rfl⟩ hS ⟨h_x0, h_x0r0, h_x0r0r0, h_x0r0r1, h_x0r0r2⟩ hl.1 rfl (Nat.le_of_ble_eq_true rfl) dX0_areAngles_681 ⟨Nat.le_of_ble_eq_true rfl, Nat.le_of_ble_eq_true rfl⟩) hS (fun b H locs hp hS hz => ?_)
                                obtain ⟨eb_, hO⟩ := hp
                                rw [eb_]
                                have h_x0 := h_x0.ext hO
                                have h_x0r0 := h_x0r0.ext hO
                                have h_x0r0r0 := h_x0r0r0.ext hO
                                have h_x0r0r1 := h_x0r0r1.ext hO
                                have h_x0r0r2 := h_x0r0r2.ext hO
                                have hF := hF.trans (hO.mono (fun _ _ z => z.elim))
                                refine lv_lload_n hx hb dX0_areAngles_684 rfl (lv_at hl 1 rfl) ?_
                                obtain ⟨v157, ev157, h⟩ := lti_step h
                                refine r_lcmp hx hb ev157 dX0_areAngles_685 ?_
                                refine lv_if_ne (tgt := 693) hx hb dX0_areAngles_686 (by decide) (fun c158 => ?_) (fun c158 => ?_)
                                · have h := it_neg h c158
                                  exact HK123 o154.2.2.2.1 o154.2.2.2.2 o154.2.1 o154.2.2.1 h H locs hS hF h_x0 h_x0r0 h_x0r0r0 h_x0r0r1 h_x0r0r2 ls (lv_sub hl [0, 1, 2] rfl)
                                · have h := it_pos h c158
                                  exact HK131 o154.2.2.2.1 o154.2.2.2.2 o154.2.1 o154.2.2.1 h H locs hS hF h_x0 h_x0r0 h_x0r0r0 h_x0r0r1 h_x0r0r2 ls (lv_sub hl [0, 1, 2] rfl)
                            clear eK153
                            refine r_ifz_ne (tgt := 670) hx hb dX0_areAngles_663 (by decide) (fun c159 => ?_) (fun c159 => ?_)
                            · have h := it_pos h (by rw [c159])
                              refine lv_iconst (v := 0) hx hb dX0_areAngles_670 (by decide) ?_
                              exact HK153 false h H locs hS hF h_x0 h_x0r0 h_x0r0r0 h_x0r0r1 h_x0r0r2 ls (lv_sub hl [0, 1, 2] rfl)
                            · have h := it_neg h (by rw [c159]; decide)
                              refine lv_iconst (v := 1) hx hb dX0_areAngles_666 (by decide) ?_
                              refine lv_goto (tgt := 671) hx hb dX0_areAngles_667 (by decide) ?_
                              exact HK153 true h H locs hS hF h_x0 h_x0r0 h_x0r0r0 h_x0r0r1 h_x0r0r2 ls (lv_sub hl [0, 1, 2] rfl)
                        clear eK150
                        refine r_ifz_eq (tgt := 651) hx hb dX0_areAngles_644 (by decide) (fun c160 => ?_) (fun c160 => ?_)
                        · have h := it_neg h (by rw [c160]; decide)
                          refine lv_iconst (v := (-1)) hx hb dX0_areAngles_651 (by decide) ?_
                          exact HK150 (-1) h H locs hS hF h_x0 h_x0r0 h_x0r0r0 h_x0r0r1 h_x0r0r2 ls (lv_sub hl [1, 2, 3, 6] rfl)
                        · have h := it_pos h (by rw [c160])
                          refine lv_iconst (v := 1) hx hb dX0_areAngles_647 (by decide) ?_
                          refine lv_goto (tgt := 652) hx hb dX0_areAngles_648 (by decide) ?_
                          exact HK150 1 h H locs hS hF h_x0 h_x0r0 h_x0r0r0 h_x0r0r1 h_x0r0r2 ls (lv_sub hl [1, 2, 3, 6] rfl)
                  · have h := it_neg h c143
                    exact HK132  h H locs hS hF h_x0 h_x0r0 h_x0r0r0 h_x0r0r1 h_x0r0r2 ls (lv_sub hl [1, 2, 3, 4, 7] rfl)
            clear eK39
            refine r_ifz_eq (tgt := 544) hx hb dX0_areAngles_537 (by decide) (fun c161 => ?_) (fun c161 => ?_)
            · have h := it_neg h (by rw [c161]; decide)
              refine lv_iconst (v := 1) hx hb dX0_areAngles_544 (by decide) ?_
              exact HK39 1 h H locs hS hF h_x0 h_x0r0 h_x0r0r0 h_x0r0r1 h_x0r0r2 ls (lv_sub hl [2, 3, 4, 5, 6, 1, 0] rfl)
            · have h := it_pos h (by rw [c161])
              refine lv_iconst (v := (-1)) hx hb dX0_areAngles_540 (by decide) ?_
              refine lv_goto (tgt := 545) hx hb dX0_areAngles_541 (by decide) ?_
              exact HK39 (-1) h H locs hS hF h_x0 h_x0r0 h_x0r0r0 h_x0r0r1 h_x0r0r2 ls (lv_sub hl [2, 3, 4, 5, 6, 1, 0] rfl)
          clear eK36
          refine lv_if_eq (tgt := 518) hx hb dX0_areAngles_511 (by decide) (fun c162 => ?_) (fun c162 => ?_)
          · have h := it_pos h c162
            refine lv_iconst (v := 0) hx hb dX0_areAngles_518 (by decide) ?_
            exact HK36 false h H locs hS hF h_x0 h_x0r0 h_x0r0r0 h_x0r0r1 h_x0r0r2 ls (lv_sub hl [1, 3, 4, 0, 5] rfl)
          · have h := it_neg h c162
            refine lv_iconst (v := 1) hx hb dX0_areAngles_514 (by decide) ?_
            refine lv_goto (tgt := 519) hx hb dX0_areAngles_515 (by decide) ?_
            exact HK36 true h H locs hS hF h_x0 h_x0r0 h_x0r0r0 h_x0r0r1 h_x0r0r2 ls (lv_sub hl [1, 3, 4, 0, 5] rfl)
        clear eK31
        refine r_ifz_eq (tgt := 445) hx hb dX0_areAngles_285 (by decide) (fun c163 => ?_) (fun c163 => ?_)
        · have h := it_neg h (by rw [c163]; decide)
          refine lv_iload hx hb dX0_areAngles_445 (lv_at hl 3 rfl) ?_
          obtain ⟨K165, eK165, h⟩ := lt_step h
          have HK165 : ∀ (v164 : Bool) (h : K165 v164 = some r) (H : Heap) (locs : List Loc) (hS : St D s H locs) (hF : Off (fun a => a = x0r0 ∨ a = x0r0r0 ∨ a = x0r0r2) s.heap H) (h_x0 : OA D 1 x0 [.ref x0r0] H) (h_x0r0 : ON D 0 x0r0 [.ref x0r0r0, .ref x0r0r1, .ref x0r0r2, .int o23.2.1, .int x0r0f4, .int o23.2.2.1, .int x0r0f6] H) (h_x0r0r0 : aD D x0r0r0 8 o23.2.2.2.1 H) (h_x0r0r1 : aD D x0r0r1 8 x0r0r1c H) (h_x0r0r2 : aZ D x0r0r2 8 o23.2.2.2.2 H) (ls : Array Slot) (hl : lv_has ls 19 [(0, .ref x0), (1, .int x1), (3, .long o5), (5, .long o6)]), W p l e R_X0_areAngles s m A below meth c H locs 4281 43926 Q (F0 m 484 ls [.int (bI v164)]) := by
            intro v164 h H locs hS hF h_x0 h_x0r0 h_x0r0r0 h_x0r0r1 h_x0r0r2 ls hl
            subst eK165
            refine lv_istore (lv' := [(10, .int (bI v164)), (0, .ref x0), (1, .int x1), (3, .long o5), (5, .long o6)]) hx hb dX0_areAngles_484 hl (by decide) rfl (fun ls hl => ?_)
            refine W.widen (k := 5386) (n := 55162) (Nat.le_of_ble_eq_true rfl) (Nat.le_of_ble_eq_true rfl) ?_
            exact HK31 o23.2.2.2.1 o23.2.2.2.2 o23.2.1 o23.2.2.1 v164 h H locs hS hF h_x0 h_x0r0 h_x0r0r0 h_x0r0r1 h_x0r0r2 ls (lv_sub hl [1, 2, 3, 4, 0] rfl)
          clear eK165
          obtain ⟨K166, eK166, h⟩ := lt_step h
          have HK166 : ∀  (h : K166 () = some r) (H : Heap) (locs : List Loc) (hS : St D s H locs) (hF : Off (fun a => a = x0r0 ∨ a = x0r0r0 ∨ a = x0r0r2) s.heap H) (h_x0 : OA D 1 x0 [.ref x0r0] H) (h_x0r0 : ON D 0 x0r0 [.ref x0r0r0, .ref x0r0r1, .ref x0r0r2, .int o23.2.1, .int x0r0f4, .int o23.2.2.1, .int x0r0f6] H) (h_x0r0r0 : aD D x0r0r0 8 o23.2.2.2.1 H) (h_x0r0r1 : aD D x0r0r1 8 x0r0r1c H) (h_x0r0r2 : aZ D x0r0r2 8 o23.2.2.2.2 H) (ls : Array Slot) (hl : lv_has ls 19 [(0, .ref x0), (1, .int x1), (3, .long o5), (5, .long o6)]), W p l e R_X0_areAngles s m A below meth c H locs 4281 43926 Q (F0 m 483 ls []) := by
            intro h H locs hS hF h_x0 h_x0r0 h_x0r0r0 h_x0r0r1 h_x0r0r2 ls hl
            subst eK166
            refine lv_iconst (v := 0) hx hb dX0_areAngles_483 (by decide) ?_
            exact HK165 false h H locs hS hF h_x0 h_x0r0 h_x0r0r0 h_x0r0r1 h_x0r0r2 ls (lv_sub hl [0, 1, 2, 3] rfl)
          clear eK166
          refine r_ifz_eq (tgt := 483) hx hb dX0_areAngles_447 (by decide) (fun c167 => ?_) (fun c167 => ?_)
          · have h := it_neg h (by rw [c167]; decide)
            exact HK166  h H locs hS hF h_x0 h_x0r0 h_x0r0r0 h_x0r0r1 h_x0r0r2 ls (lv_sub hl [4, 5, 6, 7] rfl)
          · have h := it_pos h (by rw [c167])
            refine lv_iload hx hb dX0_areAngles_450 (lv_at hl 1 rfl) ?_
            refine lv_bipush (v := (-9)) hx hb dX0_areAngles_452 (by decide) ?_
            refine lv_icmp_ne (tgt := 483) hx hb dX0_areAngles_454 (by decide) (fun c168 => ?_) (fun c168 => ?_)
            · have h := it_neg h c168
              exact HK166  h H locs hS hF h_x0 h_x0r0 h_x0r0r0 h_x0r0r1 h_x0r0r2 ls (lv_sub hl [4, 5, 6, 7] rfl)
            · have h := it_pos h c168
              refine lv_iload hx hb dX0_areAngles_457 (lv_at hl 0 rfl) ?_
              refine lv_bipush (v := (-9)) hx hb dX0_areAngles_459 (by decide) ?_
              refine lv_icmp_ne (tgt := 483) hx hb dX0_areAngles_461 (by decide) (fun c169 => ?_) (fun c169 => ?_)
              · have h := it_neg h c169
                exact HK166  h H locs hS hF h_x0 h_x0r0 h_x0r0r0 h_x0r0r1 h_x0r0r2 ls (lv_sub hl [4, 5, 6, 7] rfl)
              · have h := it_pos h c169
                refine lv_aload_n hx hb dX0_areAngles_464 rfl (lv_at hl 4 rfl) ?_
                refine r_get hx hb hts hown hS h_x0 rfl in_X0 0 (by decide) q936 rfl (v := .ref x0r0) rfl dX0_areAngles_465 ?_
                refine lv_iconst (v := 2) hx hb dX0_areAngles_468 (by decide) ?_
                obtain ⟨o170, eo170, h⟩ := bind_step h
                refine r_cp (r_runV (rest := []) (As := [.int 2]) hC 1 (m_X1_house x0r0 x0r0r0 x0r0r1 x0r0r2  o23.2.2.2.1 x0r0r1c o23.2.2.2.2 o23.2.1 x0r0f4 o23.2.2.1 x0r0f6 2 o170 eo170) q1248 q1249 q1250 q46 q1251 (OA.recv hS h_x0r0.OA (C := RX1) rfl) hd_X1_house rfl ⟨Nat.le_of_ble_eq_true rfl, Nat.le_of_ble_eq_true rfl⟩ hS ⟨h_x0r0, h_x0r0r0, h_x0r0r1, h_x0r0r2⟩ hl.1 rfl (Nat.le_of_ble_eq_true rfl) dX0_areAngles_469 ⟨Nat.le_of_ble_eq_true rfl, Nat.le_of_ble_eq_true rfl⟩) ?_
                refine lv_iload hx hb dX0_areAngles_472 (lv_at hl 2 rfl) ?_
                refine lv_iconst (v := 2) hx hb dX0_areAngles_474 (by decide) ?_
                obtain ⟨v171, ev171, h⟩ := lti_step h
                refine r_iadd hx hb ev171 dX0_areAngles_475 ?_
                refine lv_icmp_ne (tgt := 483) hx hb dX0_areAngles_476 (by decide) (fun c172 => ?_) (fun c172 => ?_)
                · have h := it_neg h c172
                  exact HK166  h H locs hS hF h_x0 h_x0r0 h_x0r0r0 h_x0r0r1 h_x0r0r2 ls (lv_sub hl [4, 5, 6, 7] rfl)
                · have h := it_pos h c172
                  refine lv_iconst (v := 1) hx hb dX0_areAngles_479 (by decide) ?_
                  refine lv_goto (tgt := 484) hx hb dX0_areAngles_480 (by decide) ?_
                  exact HK165 true h H locs hS hF h_x0 h_x0r0 h_x0r0r0 h_x0r0r1 h_x0r0r2 ls (lv_sub hl [4, 5, 6, 7] rfl)
        · have h := it_pos h (by rw [c163])
          refine lv_iload hx hb dX0_areAngles_288 (lv_at hl 3 rfl) ?_
          obtain ⟨K178, eK178, h⟩ := lt_step h
          have HK178 : ∀ (f173 : Nat → UInt64) (f174 : Nat → Int32) (v175 : Int32) (v176 : Int32) (v177 : Bool) (h : K178 f173 f174 v175 v176 v177 = some r) (H : Heap) (locs : List Loc) (hS : St D s H locs) (hF : Off (fun a => a = x0r0 ∨ a = x0r0r0 ∨ a = x0r0r2) s.heap H) (h_x0 : OA D 1 x0 [.ref x0r0] H) (h_x0r0 : ON D 0 x0r0 [.ref x0r0r0, .ref x0r0r1, .ref x0r0r2, .int v175, .int x0r0f4, .int v176, .int x0r0f6] H) (h_x0r0r0 : aD D x0r0r0 8 f173 H) (h_x0r0r1 : aD D x0r0r1 8 x0r0r1c H) (h_x0r0r2 : aZ D x0r0r2 8 f174 H) (ls : Array Slot) (hl : lv_has ls 19 [(0, .ref x0), (1, .int x1), (3, .long o5), (5, .long o6)]), W p l e R_X0_areAngles s m A below meth c H locs 5386 55162 Q (F0 m 440 ls [.int (bI v177)]) := by
            intro f173 f174 v175 v176 v177 h H locs hS hF h_x0 h_x0r0 h_x0r0r0 h_x0r0r1 h_x0r0r2 ls hl
            subst eK178
            refine lv_istore (lv' := [(10, .int (bI v177)), (0, .ref x0), (1, .int x1), (3, .long o5), (5, .long o6)]) hx hb dX0_areAngles_440 hl (by decide) rfl (fun ls hl => ?_)
            refine lv_goto (tgt := 486) hx hb dX0_areAngles_442 (by decide) ?_
            exact HK31 f173 f174 v175 v176 v177 h H locs hS hF h_x0 h_x0r0 h_x0r0r0 h_x0r0r1 h_x0r0r2 ls (lv_sub hl [1, 2, 3, 4, 0] rfl)
          clear eK178
          obtain ⟨K183, eK183, h⟩ := lt_step h
          have HK183 : ∀ (f179 : Nat → UInt64) (f180 : Nat → Int32) (v181 : Int32) (v182 : Int32) (h : K183 f179 f180 v181 v182 = some r) (H : Heap) (locs : List Loc) (hS : St D s H locs) (hF : Off (fun a => a = x0r0 ∨ a = x0r0r0 ∨ a = x0r0r2) s.heap H) (h_x0 : OA D 1 x0 [.ref x0r0] H) (h_x0r0 : ON D 0 x0r0 [.ref x0r0r0, .ref x0r0r1, .ref x0r0r2, .int v181, .int x0r0f4, .int v182, .int x0r0f6] H) (h_x0r0r0 : aD D x0r0r0 8 f179 H) (h_x0r0r1 : aD D x0r0r1 8 x0r0r1c H) (h_x0r0r2 : aZ D x0r0r2 8 f180 H) (ls : Array Slot) (hl : lv_has ls 19 [(0, .ref x0), (1, .int x1), (3, .long o5), (5, .long o6)]), W p l e R_X0_areAngles s m A below meth c H locs 5386 55162 Q (F0 m 439 ls []) := by
            intro f179 f180 v181 v182 h H locs hS hF h_x0 h_x0r0 h_x0r0r0 h_x0r0r1 h_x0r0r2 ls hl
            subst eK183
            refine lv_iconst (v := 0) hx hb dX0_areAngles_439 (by decide) ?_
            exact HK178 f179 f180 v181 v182 false h H locs hS hF h_x0 h_x0r0 h_x0r0r0 h_x0r0r1 h_x0r0r2 ls (lv_sub hl [0, 1, 2, 3] rfl)
          clear eK183
          refine r_ifz_eq (tgt := 439) hx hb dX0_areAngles_290 (by decide) (fun c184 => ?_) (fun c184 => ?_)
          · have h := it_neg h (by rw [c184]; decide)
            refine W.widen (k := 5386) (n := 55162) (Nat.le_of_ble_eq_true rfl) (Nat.le_of_ble_eq_true rfl) ?_
            exact HK183 o23.2.2.2.1 o23.2.2.2.2 o23.2.1 o23.2.2.1 h H locs hS hF h_x0 h_x0r0 h_x0r0r0 h_x0r0r1 h_x0r0r2 ls (lv_sub hl [4, 5, 6, 7] rfl)
          · have h := it_pos h (by rw [c184])
            refine lv_iload hx hb dX0_areAngles_293 (lv_at hl 1 rfl) ?_
            refine lv_iconst (v := 1) hx hb dX0_areAngles_295 (by decide) ?_
            refine lv_icmp_ne (tgt := 439) hx hb dX0_areAngles_296 (by decide) (fun c185 => ?_) (fun c185 => ?_)
            · have h := it_neg h c185
              refine W.widen (k := 5386) (n := 55162) (Nat.le_of_ble_eq_true rfl) (Nat.le_of_ble_eq_true rfl) ?_
              exact HK183 o23.2.2.2.1 o23.2.2.2.2 o23.2.1 o23.2.2.1 h H locs hS hF h_x0 h_x0r0 h_x0r0r0 h_x0r0r1 h_x0r0r2 ls (lv_sub hl [4, 5, 6, 7] rfl)
            · have h := it_pos h c185
              refine lv_iload hx hb dX0_areAngles_299 (lv_at hl 0 rfl) ?_
              refine lv_iconst (v := 1) hx hb dX0_areAngles_301 (by decide) ?_
              refine lv_icmp_ne (tgt := 439) hx hb dX0_areAngles_302 (by decide) (fun c186 => ?_) (fun c186 => ?_)
              · have h := it_neg h c186
                refine W.widen (k := 5386) (n := 55162) (Nat.le_of_ble_eq_true rfl) (Nat.le_of_ble_eq_true rfl) ?_
                exact HK183 o23.2.2.2.1 o23.2.2.2.2 o23.2.1 o23.2.2.1 h H locs hS hF h_x0 h_x0r0 h_x0r0r0 h_x0r0r1 h_x0r0r2 ls (lv_sub hl [4, 5, 6, 7] rfl)
              · have h := it_pos h c186
                refine lv_aload_n hx hb dX0_areAngles_305 rfl (lv_at hl 4 rfl) ?_
                refine lv_iconst (v := 4) hx hb dX0_areAngles_306 (by decide) ?_
                obtain ⟨o187, eo187, h⟩ := bind_step h
                refine r_cl (r_runV (rest := []) (As := [.int 4]) hC 1 (m_X0_its x0 x0r0 x0r0r0 x0r0r1 x0r0r2  o23.2.2.2.1 x0r0r1c o23.2.2.2.2 o23.2.1 x0r0f4 o23.2.2.1 x0r0f6 4 o187 eo187) q944 q946 qs10 q39 q947 (OA.recv hS h_x0 (C := RX0) rfl) hd_X0_its rfl ⟨Nat.le_of_ble_eq_true rfl, Nat.le_of_ble_eq_true rfl⟩ hS ⟨h_x0, h_x0r0, h_x0r0r0, h_x0r0r1, h_x0r0r2⟩ hl.1 rfl (Nat.le_of_ble_eq_true rfl) dX0_areAngles_307 ⟨Nat.le_of_ble_eq_true rfl, Nat.le_of_ble_eq_true rfl⟩) hS (fun b H locs hp hS hz => ?_)
                obtain ⟨eb_, hO⟩ := hp
                rw [eb_]
                have h_x0 := h_x0.ext hO
                have h_x0r0 := h_x0r0.ext hO
                have h_x0r0r0 := h_x0r0r0.ext hO
                have h_x0r0r1 := h_x0r0r1.ext hO
                have h_x0r0r2 := h_x0r0r2.ext hO
                have hF := hF.trans (hO.mono (fun _ _ z => z.elim))
                refine lv_lload_n hx hb dX0_areAngles_310 rfl (lv_at hl 6 rfl) ?_
                refine lv_lload hx hb dX0_areAngles_311 (lv_at hl 7 rfl) ?_
                obtain ⟨v188, ev188, h⟩ := ltl_step h
                refine r_ladd hx hb ev188 dX0_areAngles_313 ?_
                obtain ⟨v189, ev189, h⟩ := lti_step h
                refine r_lcmp hx hb ev189 dX0_areAngles_314 ?_
                refine lv_if_ne (tgt := 439) hx hb dX0_areAngles_315 (by decide) (fun c190 => ?_) (fun c190 => ?_)
                · have h := it_neg h c190
                  refine W.widen (k := 5386) (n := 55162) (Nat.le_of_ble_eq_true rfl) (Nat.le_of_ble_eq_true rfl) ?_
                  exact HK183 o23.2.2.2.1 o23.2.2.2.2 o23.2.1 o23.2.2.1 h H locs hS hF h_x0 h_x0r0 h_x0r0r0 h_x0r0r1 h_x0r0r2 ls (lv_sub hl [4, 5, 6, 7] rfl)
                · have h := it_pos h c190
                  refine lv_aload_n hx hb dX0_areAngles_318 rfl (lv_at hl 4 rfl) ?_
                  refine r_get hx hb hts hown hS h_x0 rfl in_X0 0 (by decide) q936 rfl (v := .ref x0r0) rfl dX0_areAngles_319 ?_
                  refine lv_iconst (v := 4) hx hb dX0_areAngles_322 (by decide) ?_
                  refine lv_iconst (v := 5) hx hb dX0_areAngles_323 (by decide) ?_
                  obtain ⟨o191, eo191, h⟩ := bind_step h
                  refine r_ci (r_runV (rest := []) (As := [.int 4, .int 5]) hC 2 (m_X1_angleCopy x0r0 x0r0r0 x0r0r1 x0r0r2  o23.2.2.2.1 x0r0r1c o23.2.2.2.2 o23.2.1 x0r0f4 o23.2.2.1 x0r0f6 4 5 o191 eo191) q1514 q1515 q1516 q46 q1517 (OA.recv hS h_x0r0.OA (C := RX1) rfl) hd_X1_angleCopy rfl ⟨Nat.le_of_ble_eq_true rfl, Nat.le_of_ble_eq_true rfl⟩ hS ⟨h_x0r0, hB_h_x0r0, h_x0r0r0, hB_h_x0r0r0, h_x0r0r1, h_x0r0r2, hB_h_x0r0r2, ne_x0r0_x0r0r0, ne_x0r0_x0r0r1, ne_x0r0_x0r0r2, ne_x0r0r0_x0r0r1, ne_x0r0r0_x0r0r2, ne_x0r0r1_x0r0r2⟩ hl.1 rfl (Nat.le_of_ble_eq_true rfl) dX0_areAngles_324 ⟨Nat.le_of_ble_eq_true rfl, Nat.le_of_ble_eq_true rfl⟩) hS (fun b H locs hp hS hz => ?_)
                  obtain ⟨rfl, h_x0r0, h_x0r0r0, h_x0r0r2, hO⟩ := hp
                  have h_x0 := h_x0.off hO (fun z => by rcases z with z | z | z <;> first | exact ne_x0_x0r0 z | exact ne_x0_x0r0r0 z | exact ne_x0_x0r0r2 z)
                  have h_x0r0r1 := h_x0r0r1.off hO (fun z => by rcases z with z | z | z <;> first | exact (Ne.symm ne_x0r0_x0r0r1) z | exact (Ne.symm ne_x0r0r0_x0r0r1) z | exact ne_x0r0r1_x0r0r2 z)
                  have hF := hF.fresh hO (fun a ha z => by
                    rcases z with z | z | z
                    · exact Or.inl z
                    · exact Or.inr (Or.inl z)
                    · exact Or.inr (Or.inr (z)))
                  refine lv_if_ne (tgt := 439) hx hb dX0_areAngles_327 (by decide) (fun c192 => ?_) (fun c192 => ?_)
                  · have h := it_neg h c192
                    refine W.widen (k := 5386) (n := 55162) (Nat.le_of_ble_eq_true rfl) (Nat.le_of_ble_eq_true rfl) ?_
                    exact HK183 o191.2.2.1 o191.2.2.2 o191.2.1 o23.2.2.1 h H locs hS hF h_x0 h_x0r0 h_x0r0r0 h_x0r0r1 h_x0r0r2 ls (lv_sub hl [4, 5, 6, 7] rfl)
                  · have h := it_pos h c192
                    refine lv_aload_n hx hb dX0_areAngles_330 rfl (lv_at hl 4 rfl) ?_
                    refine r_get hx hb hts hown hS h_x0 rfl in_X0 0 (by decide) q936 rfl (v := .ref x0r0) rfl dX0_areAngles_331 ?_
                    refine lv_iconst (v := 1) hx hb dX0_areAngles_334 (by decide) ?_
                    obtain ⟨o193, eo193, h⟩ := bind_step h
                    refine r_ci (r_runV (rest := []) (As := [.int 1]) hC 1 (m_X1_angleTurn x0r0 x0r0r0 x0r0r1 x0r0r2  o191.2.2.1 x0r0r1c o191.2.2.2 o191.2.1 x0r0f4 o23.2.2.1 x0r0f6 1 o193 eo193) q1528 q1529 q1530 q46 q1531 (OA.recv hS h_x0r0.OA (C := RX1) rfl) hd_X1_angleTurn rfl ⟨Nat.le_of_ble_eq_true rfl, Nat.le_of_ble_eq_true rfl⟩ hS ⟨h_x0r0, hB_h_x0r0, h_x0r0r0, hB_h_x0r0r0, h_x0r0r1, h_x0r0r2, hB_h_x0r0r2, ne_x0r0_x0r0r0, ne_x0r0_x0r0r1, ne_x0r0_x0r0r2, ne_x0r0r0_x0r0r1, ne_x0r0r0_x0r0r2, ne_x0r0r1_x0r0r2⟩ hl.1 rfl (Nat.le_of_ble_eq_true rfl) dX0_areAngles_335 ⟨Nat.le_of_ble_eq_true rfl, Nat.le_of_ble_eq_true rfl⟩) hS (fun b H locs hp hS hz => ?_)
                    obtain ⟨rfl, h_x0r0, h_x0r0r0, h_x0r0r2, hO⟩ := hp
                    have h_x0 := h_x0.off hO (fun z => by rcases z with z | z | z <;> first | exact ne_x0_x0r0 z | exact ne_x0_x0r0r0 z | exact ne_x0_x0r0r2 z)
                    have h_x0r0r1 := h_x0r0r1.off hO (fun z => by rcases z with z | z | z <;> first | exact (Ne.symm ne_x0r0_x0r0r1) z | exact (Ne.symm ne_x0r0r0_x0r0r1) z | exact ne_x0r0r1_x0r0r2 z)
                    have hF := hF.fresh hO (fun a ha z => by
                      rcases z with z | z | z
                      · exact Or.inl z
                      · exact Or.inr (Or.inl z)
                      · exact Or.inr (Or.inr (z)))
                    refine lv_lload hx hb dX0_areAngles_338 (lv_at hl 7 rfl) ?_
                    refine lv_lconst (v := 0) hx hb dX0_areAngles_340 rfl ?_
                    obtain ⟨v194, ev194, h⟩ := lti_step h
                    refine r_lcmp hx hb ev194 dX0_areAngles_341 ?_
                    obtain ⟨K196, eK196, h⟩ := lt_step h
                    have HK196 : ∀ (v195 : Bool) (h : K196 v195 = some r) (H : Heap) (locs : List Loc) (hS : St D s H locs) (hF : Off (fun a => a = x0r0 ∨ a = x0r0r0 ∨ a = x0r0r2) s.heap H) (h_x0 : OA D 1 x0 [.ref x0r0] H) (h_x0r0 : ON D 0 x0r0 [.ref x0r0r0, .ref x0r0r1, .ref x0r0r2, .int o193.2.1, .int x0r0f4, .int o23.2.2.1, .int x0r0f6] H) (h_x0r0r0 : aD D x0r0r0 8 o193.2.2.1 H) (h_x0r0r1 : aD D x0r0r1 8 x0r0r1c H) (h_x0r0r2 : aZ D x0r0r2 8 o193.2.2.2 H) (ls : Array Slot) (hl : lv_has ls 19 [(0, .ref x0), (1, .int x1), (3, .long o5), (5, .long o6), (7, .int o21)]), W p l e R_X0_areAngles s m A below meth c H locs 4828 49414 Q (F0 m 350 ls [.int (bI v195), .int o193.1]) := by
                      intro v195 h H locs hS hF h_x0 h_x0r0 h_x0r0r0 h_x0r0r1 h_x0r0r2 ls hl
                      subst eK196
                      refine lv_icmp_ne (tgt := 439) hx hb dX0_areAngles_350 (by decide) (fun c197 => ?_) (fun c197 => ?_)
                      · have h := it_neg h c197
                        refine W.widen (k := 5386) (n := 55162) (Nat.le_of_ble_eq_true rfl) (Nat.le_of_ble_eq_true rfl) ?_
                        exact HK183 o193.2.2.1 o193.2.2.2 o193.2.1 o23.2.2.1 h H locs hS hF h_x0 h_x0r0 h_x0r0r0 h_x0r0r1 h_x0r0r2 ls (lv_sub hl [0, 1, 2, 3] rfl)
                      · have h := it_pos h c197
                        refine lv_aload_n hx hb dX0_areAngles_353 rfl (lv_at hl 0 rfl) ?_
                        refine r_get hx hb hts hown hS h_x0 rfl in_X0 0 (by decide) q936 rfl (v := .ref x0r0) rfl dX0_areAngles_354 ?_
                        refine lv_iconst (v := 4) hx hb dX0_areAngles_357 (by decide) ?_
                        refine lv_iconst (v := 1) hx hb dX0_areAngles_358 (by decide) ?_
                        refine lv_iconst (v := 5) hx hb dX0_areAngles_359 (by decide) ?_
                        obtain ⟨o198, eo198, h⟩ := bind_step h
                        refine r_ci (r_runV (rest := []) (As := [.int 4, .int 1, .int 5]) hC 3 (m_X1_angleSum x0r0 x0r0r0 x0r0r1 x0r0r2  o193.2.2.1 x0r0r1c o193.2.2.2 o193.2.1 x0r0f4 o23.2.2.1 x0r0f6 4 1 5 o198 eo198) q1362 q1363 q1364 q46 q1365 (OA.recv hS h_x0r0.OA (C := RX1) rfl) hd_X1_angleSum rfl ⟨Nat.le_of_ble_eq_true rfl, Nat.le_of_ble_eq_true rfl⟩ hS ⟨h_x0r0, hB_h_x0r0, h_x0r0r0, hB_h_x0r0r0, h_x0r0r1, h_x0r0r2, hB_h_x0r0r2, ne_x0r0_x0r0r0, ne_x0r0_x0r0r1, ne_x0r0_x0r0r2, ne_x0r0r0_x0r0r1, ne_x0r0r0_x0r0r2, ne_x0r0r1_x0r0r2⟩ hl.1 rfl (Nat.le_of_ble_eq_true rfl) dX0_areAngles_360 ⟨Nat.le_of_ble_eq_true rfl, Nat.le_of_ble_eq_true rfl⟩) hS (fun b H locs hp hS hz => ?_)
                        obtain ⟨rfl, h_x0r0, h_x0r0r0, h_x0r0r2, hO⟩ := hp
                        have h_x0 := h_x0.off hO (fun z => by rcases z with z | z | z <;> first | exact ne_x0_x0r0 z | exact ne_x0_x0r0r0 z | exact ne_x0_x0r0r2 z)
                        have h_x0r0r1 := h_x0r0r1.off hO (fun z => by rcases z with z | z | z <;> first | exact (Ne.symm ne_x0r0_x0r0r1) z | exact (Ne.symm ne_x0r0r0_x0r0r1) z | exact ne_x0r0r1_x0r0r2 z)
                        have hF := hF.fresh hO (fun a ha z => by
                          rcases z with z | z | z
                          · exact Or.inl z
                          · exact Or.inr (Or.inl z)
                          · exact Or.inr (Or.inr (z)))
                        refine lv_lload hx hb dX0_areAngles_363 (lv_at hl 3 rfl) ?_
                        refine lv_lconst (v := 0) hx hb dX0_areAngles_365 rfl ?_
                        obtain ⟨v199, ev199, h⟩ := lti_step h
                        refine r_lcmp hx hb ev199 dX0_areAngles_366 ?_
                        obtain ⟨K201, eK201, h⟩ := lt_step h
                        have HK201 : ∀ (v200 : Bool) (h : K201 v200 = some r) (H : Heap) (locs : List Loc) (hS : St D s H locs) (hF : Off (fun a => a = x0r0 ∨ a = x0r0r0 ∨ a = x0r0r2) s.heap H) (h_x0 : OA D 1 x0 [.ref x0r0] H) (h_x0r0 : ON D 0 x0r0 [.ref x0r0r0, .ref x0r0r1, .ref x0r0r2, .int o198.2.1, .int x0r0f4, .int o198.2.2.1, .int x0r0f6] H) (h_x0r0r0 : aD D x0r0r0 8 o198.2.2.2.1 H) (h_x0r0r1 : aD D x0r0r1 8 x0r0r1c H) (h_x0r0r2 : aZ D x0r0r2 8 o198.2.2.2.2 H) (ls : Array Slot) (hl : lv_has ls 19 [(0, .ref x0), (1, .int x1), (3, .long o5), (5, .long o6), (7, .int o21)]), W p l e R_X0_areAngles s m A below meth c H locs 5096 52028 Q (F0 m 375 ls [.int (bI v200), .int o198.1]) := by
                          intro v200 h H locs hS hF h_x0 h_x0r0 h_x0r0r0 h_x0r0r1 h_x0r0r2 ls hl
                          subst eK201
                          refine lv_icmp_ne (tgt := 439) hx hb dX0_areAngles_375 (by decide) (fun c202 => ?_) (fun c202 => ?_)
                          · have h := it_neg h c202
                            refine W.widen (k := 5386) (n := 55162) (Nat.le_of_ble_eq_true rfl) (Nat.le_of_ble_eq_true rfl) ?_
                            exact HK183 o198.2.2.2.1 o198.2.2.2.2 o198.2.1 o198.2.2.1 h H locs hS hF h_x0 h_x0r0 h_x0r0r0 h_x0r0r1 h_x0r0r2 ls (lv_sub hl [0, 1, 2, 3] rfl)
                          · have h := it_pos h c202
                            refine lv_aload_n hx hb dX0_areAngles_378 rfl (lv_at hl 0 rfl) ?_
                            refine lv_iconst (v := 5) hx hb dX0_areAngles_379 (by decide) ?_
                            obtain ⟨o203, eo203, h⟩ := bind_step h
                            refine r_cl (r_runV (rest := []) (As := [.int 5]) hC 1 (m_X0_its x0 x0r0 x0r0r0 x0r0r1 x0r0r2  o198.2.2.2.1 x0r0r1c o198.2.2.2.2 o198.2.1 x0r0f4 o198.2.2.1 x0r0f6 5 o203 eo203) q944 q946 qs10 q39 q947 (OA.recv hS h_x0 (C := RX0) rfl) hd_X0_its rfl ⟨Nat.le_of_ble_eq_true rfl, Nat.le_of_ble_eq_true rfl⟩ hS ⟨h_x0, h_x0r0, h_x0r0r0, h_x0r0r1, h_x0r0r2⟩ hl.1 rfl (Nat.le_of_ble_eq_true rfl) dX0_areAngles_380 ⟨Nat.le_of_ble_eq_true rfl, Nat.le_of_ble_eq_true rfl⟩) hS (fun b H locs hp hS hz => ?_)
                            obtain ⟨eb_, hO⟩ := hp
                            rw [eb_]
                            have h_x0 := h_x0.ext hO
                            have h_x0r0 := h_x0r0.ext hO
                            have h_x0r0r0 := h_x0r0r0.ext hO
                            have h_x0r0r1 := h_x0r0r1.ext hO
                            have h_x0r0r2 := h_x0r0r2.ext hO
                            have hF := hF.trans (hO.mono (fun _ _ z => z.elim))
                            refine lv_lload_n hx hb dX0_areAngles_383 rfl (lv_at hl 2 rfl) ?_
                            obtain ⟨v204, ev204, h⟩ := lti_step h
                            refine r_lcmp hx hb ev204 dX0_areAngles_384 ?_
                            refine lv_if_ne (tgt := 439) hx hb dX0_areAngles_385 (by decide) (fun c205 => ?_) (fun c205 => ?_)
                            · have h := it_neg h c205
                              refine W.widen (k := 5386) (n := 55162) (Nat.le_of_ble_eq_true rfl) (Nat.le_of_ble_eq_true rfl) ?_
                              exact HK183 o198.2.2.2.1 o198.2.2.2.2 o198.2.1 o198.2.2.1 h H locs hS hF h_x0 h_x0r0 h_x0r0r0 h_x0r0r1 h_x0r0r2 ls (lv_sub hl [0, 1, 2, 3] rfl)
                            · have h := it_pos h c205
                              refine lv_aload_n hx hb dX0_areAngles_388 rfl (lv_at hl 0 rfl) ?_
                              refine r_get hx hb hts hown hS h_x0 rfl in_X0 0 (by decide) q936 rfl (v := .ref x0r0) rfl dX0_areAngles_389 ?_
                              refine lv_iconst (v := 1) hx hb dX0_areAngles_392 (by decide) ?_
                              obtain ⟨o206, eo206, h⟩ := bind_step h
                              refine r_ci (r_runV (rest := []) (As := [.int 1]) hC 1 (m_X1_angleTurn x0r0 x0r0r0 x0r0r1 x0r0r2  o198.2.2.2.1 x0r0r1c o198.2.2.2.2 o198.2.1 x0r0f4 o198.2.2.1 x0r0f6 1 o206 eo206) q1528 q1529 q1530 q46 q1531 (OA.recv hS h_x0r0.OA (C := RX1) rfl) hd_X1_angleTurn rfl ⟨Nat.le_of_ble_eq_true rfl, Nat.le_of_ble_eq_true rfl⟩ hS ⟨h_x0r0, hB_h_x0r0, h_x0r0r0, hB_h_x0r0r0, h_x0r0r1, h_x0r0r2, hB_h_x0r0r2, ne_x0r0_x0r0r0, ne_x0r0_x0r0r1, ne_x0r0_x0r0r2, ne_x0r0r0_x0r0r1, ne_x0r0r0_x0r0r2, ne_x0r0r1_x0r0r2⟩ hl.1 rfl (Nat.le_of_ble_eq_true rfl) dX0_areAngles_393 ⟨Nat.le_of_ble_eq_true rfl, Nat.le_of_ble_eq_true rfl⟩) hS (fun b H locs hp hS hz => ?_)
                              obtain ⟨rfl, h_x0r0, h_x0r0r0, h_x0r0r2, hO⟩ := hp
                              have h_x0 := h_x0.off hO (fun z => by rcases z with z | z | z <;> first | exact ne_x0_x0r0 z | exact ne_x0_x0r0r0 z | exact ne_x0_x0r0r2 z)
                              have h_x0r0r1 := h_x0r0r1.off hO (fun z => by rcases z with z | z | z <;> first | exact (Ne.symm ne_x0r0_x0r0r1) z | exact (Ne.symm ne_x0r0r0_x0r0r1) z | exact ne_x0r0r1_x0r0r2 z)
                              have hF := hF.fresh hO (fun a ha z => by
                                rcases z with z | z | z
                                · exact Or.inl z
                                · exact Or.inr (Or.inl z)
                                · exact Or.inr (Or.inr (z)))
                              refine lv_lload hx hb dX0_areAngles_396 (lv_at hl 3 rfl) ?_
                              refine lv_lconst (v := 0) hx hb dX0_areAngles_398 rfl ?_
                              obtain ⟨v207, ev207, h⟩ := lti_step h
                              refine r_lcmp hx hb ev207 dX0_areAngles_399 ?_
                              obtain ⟨K209, eK209, h⟩ := lt_step h
                              have HK209 : ∀ (v208 : Bool) (h : K209 v208 = some r) (H : Heap) (locs : List Loc) (hS : St D s H locs) (hF : Off (fun a => a = x0r0 ∨ a = x0r0r0 ∨ a = x0r0r2) s.heap H) (h_x0 : OA D 1 x0 [.ref x0r0] H) (h_x0r0 : ON D 0 x0r0 [.ref x0r0r0, .ref x0r0r1, .ref x0r0r2, .int o206.2.1, .int x0r0f4, .int o198.2.2.1, .int x0r0f6] H) (h_x0r0r0 : aD D x0r0r0 8 o206.2.2.1 H) (h_x0r0r1 : aD D x0r0r1 8 x0r0r1c H) (h_x0r0r2 : aZ D x0r0r2 8 o206.2.2.2 H) (ls : Array Slot) (hl : lv_has ls 19 [(0, .ref x0), (1, .int x1), (3, .long o5), (5, .long o6), (7, .int o21)]), W p l e R_X0_areAngles s m A below meth c H locs 5375 54902 Q (F0 m 408 ls [.int (bI v208), .int o206.1]) := by
                                intro v208 h H locs hS hF h_x0 h_x0r0 h_x0r0r0 h_x0r0r1 h_x0r0r2 ls hl
                                subst eK209
                                refine lv_icmp_ne (tgt := 439) hx hb dX0_areAngles_408 (by decide) (fun c210 => ?_) (fun c210 => ?_)
                                · have h := it_neg h c210
                                  refine W.widen (k := 5386) (n := 55162) (Nat.le_of_ble_eq_true rfl) (Nat.le_of_ble_eq_true rfl) ?_
                                  exact HK183 o206.2.2.1 o206.2.2.2 o206.2.1 o198.2.2.1 h H locs hS hF h_x0 h_x0r0 h_x0r0r0 h_x0r0r1 h_x0r0r2 ls (lv_sub hl [0, 1, 2, 3] rfl)
                                · have h := it_pos h c210
                                  refine lv_aload_n hx hb dX0_areAngles_411 rfl (lv_at hl 0 rfl) ?_
                                  refine lv_iconst (v := 1) hx hb dX0_areAngles_412 (by decide) ?_
                                  obtain ⟨o211, eo211, h⟩ := bind_step h
                                  refine r_cl (r_runV (rest := []) (As := [.int 1]) hC 1 (m_X0_its x0 x0r0 x0r0r0 x0r0r1 x0r0r2  o206.2.2.1 x0r0r1c o206.2.2.2 o206.2.1 x0r0f4 o198.2.2.1 x0r0f6 1 o211 eo211) q944 q946 qs10 q39 q947 (OA.recv hS h_x0 (C := RX0) rfl) hd_X0_its rfl ⟨Nat.le_of_ble_eq_true rfl, Nat.le_of_ble_eq_true rfl⟩ hS ⟨h_x0, h_x0r0, h_x0r0r0, h_x0r0r1, h_x0r0r2⟩ hl.1 rfl (Nat.le_of_ble_eq_true rfl) dX0_areAngles_413 ⟨Nat.le_of_ble_eq_true rfl, Nat.le_of_ble_eq_true rfl⟩) hS (fun b H locs hp hS hz => ?_)
                                  obtain ⟨eb_, hO⟩ := hp
                                  rw [eb_]
                                  have h_x0 := h_x0.ext hO
                                  have h_x0r0 := h_x0r0.ext hO
                                  have h_x0r0r0 := h_x0r0r0.ext hO
                                  have h_x0r0r1 := h_x0r0r1.ext hO
                                  have h_x0r0r2 := h_x0r0r2.ext hO
                                  have hF := hF.trans (hO.mono (fun _ _ z => z.elim))
                                  refine lv_lload hx hb dX0_areAngles_416 (lv_at hl 3 rfl) ?_
                                  obtain ⟨v212, ev212, h⟩ := lti_step h
                                  refine r_lcmp hx hb ev212 dX0_areAngles_418 ?_
                                  refine lv_if_ne (tgt := 439) hx hb dX0_areAngles_419 (by decide) (fun c213 => ?_) (fun c213 => ?_)
                                  · have h := it_neg h c213
                                    exact HK183 o206.2.2.1 o206.2.2.2 o206.2.1 o198.2.2.1 h H locs hS hF h_x0 h_x0r0 h_x0r0r0 h_x0r0r1 h_x0r0r2 ls (lv_sub hl [0, 1, 2, 3] rfl)
                                  · have h := it_pos h c213
                                    refine lv_aload_n hx hb dX0_areAngles_422 rfl (lv_at hl 0 rfl) ?_
                                    refine r_get hx hb hts hown hS h_x0 rfl in_X0 0 (by decide) q936 rfl (v := .ref x0r0) rfl dX0_areAngles_423 ?_
                                    refine lv_iconst (v := 2) hx hb dX0_areAngles_426 (by decide) ?_
                                    obtain ⟨o214, eo214, h⟩ := bind_step h
                                    refine r_cp (r_runV (rest := []) (As := [.int 2]) hC 1 (m_X1_house x0r0 x0r0r0 x0r0r1 x0r0r2  o206.2.2.1 x0r0r1c o206.2.2.2 o206.2.1 x0r0f4 o198.2.2.1 x0r0f6 2 o214 eo214) q1248 q1249 q1250 q46 q1251 (OA.recv hS h_x0r0.OA (C := RX1) rfl) hd_X1_house rfl ⟨Nat.le_of_ble_eq_true rfl, Nat.le_of_ble_eq_true rfl⟩ hS ⟨h_x0r0, h_x0r0r0, h_x0r0r1, h_x0r0r2⟩ hl.1 rfl (Nat.le_of_ble_eq_true rfl) dX0_areAngles_427 ⟨Nat.le_of_ble_eq_true rfl, Nat.le_of_ble_eq_true rfl⟩) ?_
                                    refine lv_iload hx hb dX0_areAngles_430 (lv_at hl 4 rfl) ?_
                                    refine lv_icmp_ne (tgt := 439) hx hb dX0_areAngles_432 (by decide) (fun c215 => ?_) (fun c215 => ?_)
                                    · have h := it_neg h c215
                                      exact HK183 o206.2.2.1 o206.2.2.2 o206.2.1 o198.2.2.1 h H locs hS hF h_x0 h_x0r0 h_x0r0r0 h_x0r0r1 h_x0r0r2 ls (lv_sub hl [0, 1, 2, 3] rfl)
                                    · have h := it_pos h c215
                                      refine lv_iconst (v := 1) hx hb dX0_areAngles_435 (by decide) ?_
                                      refine lv_goto (tgt := 440) hx hb dX0_areAngles_436 (by decide) ?_
                                      exact HK178 o206.2.2.1 o206.2.2.2 o206.2.1 o198.2.2.1 true h H locs hS hF h_x0 h_x0r0 h_x0r0r0 h_x0r0r1 h_x0r0r2 ls (lv_sub hl [0, 1, 2, 3] rfl)
                              clear eK209
                              refine lv_if_ge (tgt := 407) hx hb dX0_areAngles_400 (by decide) (fun c216 => ?_) (fun c216 => ?_)
                              · have h := it_pos h c216
                                refine lv_iconst (v := 0) hx hb dX0_areAngles_407 (by decide) ?_
                                exact HK209 false h H locs hS hF h_x0 h_x0r0 h_x0r0r0 h_x0r0r1 h_x0r0r2 ls (lv_sub hl [0, 1, 2, 3, 4] rfl)
                              · have h := it_neg h c216
                                refine lv_iconst (v := 1) hx hb dX0_areAngles_403 (by decide) ?_
                                refine lv_goto (tgt := 408) hx hb dX0_areAngles_404 (by decide) ?_
                                exact HK209 true h H locs hS hF h_x0 h_x0r0 h_x0r0r0 h_x0r0r1 h_x0r0r2 ls (lv_sub hl [0, 1, 2, 3, 4] rfl)
                        clear eK201
                        refine lv_if_ne (tgt := 374) hx hb dX0_areAngles_367 (by decide) (fun c217 => ?_) (fun c217 => ?_)
                        · have h := it_neg h c217
                          refine lv_iconst (v := 1) hx hb dX0_areAngles_374 (by decide) ?_
                          exact HK201 true h H locs hS hF h_x0 h_x0r0 h_x0r0r0 h_x0r0r1 h_x0r0r2 ls (lv_sub hl [0, 1, 2, 3, 4] rfl)
                        · have h := it_pos h c217
                          refine lv_iconst (v := 0) hx hb dX0_areAngles_370 (by decide) ?_
                          refine lv_goto (tgt := 375) hx hb dX0_areAngles_371 (by decide) ?_
                          exact HK201 false h H locs hS hF h_x0 h_x0r0 h_x0r0r0 h_x0r0r1 h_x0r0r2 ls (lv_sub hl [0, 1, 2, 3, 4] rfl)
                    clear eK196
                    refine lv_if_ge (tgt := 349) hx hb dX0_areAngles_342 (by decide) (fun c218 => ?_) (fun c218 => ?_)
                    · have h := it_pos h c218
                      refine lv_iconst (v := 1) hx hb dX0_areAngles_349 (by decide) ?_
                      exact HK196 true h H locs hS hF h_x0 h_x0r0 h_x0r0r0 h_x0r0r1 h_x0r0r2 ls (lv_sub hl [4, 5, 6, 7, 2] rfl)
                    · have h := it_neg h c218
                      refine lv_iconst (v := 0) hx hb dX0_areAngles_345 (by decide) ?_
                      refine lv_goto (tgt := 350) hx hb dX0_areAngles_346 (by decide) ?_
                      exact HK196 false h H locs hS hF h_x0 h_x0r0 h_x0r0r0 h_x0r0r1 h_x0r0r2 ls (lv_sub hl [4, 5, 6, 7, 2] rfl)
      clear eK18
      refine r_ifz_eq (tgt := 165) hx hb dX0_areAngles_93 (by decide) (fun c219 => ?_) (fun c219 => ?_)
      · have h := it_neg h (by rw [c219]; decide)
        refine lv_iload hx hb dX0_areAngles_165 (lv_at hl 1 rfl) ?_
        refine lv_bipush (v := (-9)) hx hb dX0_areAngles_167 (by decide) ?_
        obtain ⟨K220, eK220, h⟩ := lt_step h
        have HK220 : ∀  (h : K220 () = some r) (H : Heap) (locs : List Loc) (hS : St D s H locs) (hF : Off (fun a => a = x0r0 ∨ a = x0r0r0 ∨ a = x0r0r2) s.heap H) (h_x0 : OA D 1 x0 [.ref x0r0] H) (h_x0r0 : ON D 0 x0r0 [.ref x0r0r0, .ref x0r0r1, .ref x0r0r2, .int o11.2.1, .int x0r0f4, .int o11.2.2.1, .int x0r0f6] H) (h_x0r0r0 : aD D x0r0r0 8 o11.2.2.2.1 H) (h_x0r0r1 : aD D x0r0r1 8 x0r0r1c H) (h_x0r0r2 : aZ D x0r0r2 8 o11.2.2.2.2 H) (ls : Array Slot) (hl : lv_has ls 19 [(0, .ref x0), (1, .int x1), (3, .long o5), (5, .long o6)]), W p l e R_X0_areAngles s m A below meth c H locs 2941 30856 Q (F0 m 221 ls []) := by
          intro h H locs hS hF h_x0 h_x0r0 h_x0r0r0 h_x0r0r1 h_x0r0r2 ls hl
          subst eK220
          refine lv_iconst (v := 0) hx hb dX0_areAngles_221 (by decide) ?_
          refine W.widen (k := 3209) (n := 33470) (Nat.le_of_ble_eq_true rfl) (Nat.le_of_ble_eq_true rfl) ?_
          exact HK18 o11.2.2.2.1 o11.2.2.2.2 o11.2.1 false h H locs hS hF h_x0 h_x0r0 h_x0r0r0 h_x0r0r1 h_x0r0r2 ls (lv_sub hl [0, 1, 2, 3] rfl)
        clear eK220
        refine lv_icmp_ne (tgt := 221) hx hb dX0_areAngles_169 (by decide) (fun c221 => ?_) (fun c221 => ?_)
        · have h := it_neg h c221
          refine W.widen (k := 2941) (n := 30856) (Nat.le_of_ble_eq_true rfl) (Nat.le_of_ble_eq_true rfl) ?_
          exact HK220  h H locs hS hF h_x0 h_x0r0 h_x0r0r0 h_x0r0r1 h_x0r0r2 ls (lv_sub hl [5, 6, 4, 3] rfl)
        · have h := it_pos h c221
          refine lv_iload hx hb dX0_areAngles_172 (lv_at hl 0 rfl) ?_
          refine lv_bipush (v := (-9)) hx hb dX0_areAngles_174 (by decide) ?_
          refine lv_icmp_ne (tgt := 221) hx hb dX0_areAngles_176 (by decide) (fun c222 => ?_) (fun c222 => ?_)
          · have h := it_neg h c222
            refine W.widen (k := 2941) (n := 30856) (Nat.le_of_ble_eq_true rfl) (Nat.le_of_ble_eq_true rfl) ?_
            exact HK220  h H locs hS hF h_x0 h_x0r0 h_x0r0r0 h_x0r0r1 h_x0r0r2 ls (lv_sub hl [5, 6, 4, 3] rfl)
          · have h := it_pos h c222
            refine lv_aload_n hx hb dX0_areAngles_179 rfl (lv_at hl 5 rfl) ?_
            refine lv_iconst (v := 2) hx hb dX0_areAngles_180 (by decide) ?_
            obtain ⟨o223, eo223, h⟩ := bind_step h
            refine r_cl (r_runV (rest := []) (As := [.int 2]) hC 1 (m_X0_its x0 x0r0 x0r0r0 x0r0r1 x0r0r2  o11.2.2.2.1 x0r0r1c o11.2.2.2.2 o11.2.1 x0r0f4 o11.2.2.1 x0r0f6 2 o223 eo223) q944 q946 qs10 q39 q947 (OA.recv hS h_x0 (C := RX0) rfl) hd_X0_its rfl ⟨Nat.le_of_ble_eq_true rfl, Nat.le_of_ble_eq_true rfl⟩ hS ⟨h_x0, h_x0r0, h_x0r0r0, h_x0r0r1, h_x0r0r2⟩ hl.1 rfl (Nat.le_of_ble_eq_true rfl) dX0_areAngles_181 ⟨Nat.le_of_ble_eq_true rfl, Nat.le_of_ble_eq_true rfl⟩) hS (fun b H locs hp hS hz => ?_)
            obtain ⟨eb_, hO⟩ := hp
            rw [eb_]
            have h_x0 := h_x0.ext hO
            have h_x0r0 := h_x0r0.ext hO
            have h_x0r0r0 := h_x0r0r0.ext hO
            have h_x0r0r1 := h_x0r0r1.ext hO
            have h_x0r0r2 := h_x0r0r2.ext hO
            have hF := hF.trans (hO.mono (fun _ _ z => z.elim))
            refine lv_lload_n hx hb dX0_areAngles_184 rfl (lv_at hl 4 rfl) ?_
            obtain ⟨v224, ev224, h⟩ := lti_step h
            refine r_lcmp hx hb ev224 dX0_areAngles_185 ?_
            refine lv_if_ne (tgt := 221) hx hb dX0_areAngles_186 (by decide) (fun c225 => ?_) (fun c225 => ?_)
            · have h := it_neg h c225
              exact HK220  h H locs hS hF h_x0 h_x0r0 h_x0r0r0 h_x0r0r1 h_x0r0r2 ls (lv_sub hl [5, 6, 4, 3] rfl)
            · have h := it_pos h c225
              refine lv_aload_n hx hb dX0_areAngles_189 rfl (lv_at hl 5 rfl) ?_
              refine r_get hx hb hts hown hS h_x0 rfl in_X0 0 (by decide) q936 rfl (v := .ref x0r0) rfl dX0_areAngles_190 ?_
              refine lv_iconst (v := 3) hx hb dX0_areAngles_193 (by decide) ?_
              obtain ⟨o226, eo226, h⟩ := bind_step h
              refine r_cp (r_runV (rest := []) (As := [.int 3]) hC 1 (m_X1_angleUpper x0r0 x0r0r0 x0r0r1 x0r0r2  o11.2.2.2.1 x0r0r1c o11.2.2.2.2 o11.2.1 x0r0f4 o11.2.2.1 x0r0f6 3 o226 eo226) q1190 q1191 q1192 q46 q1193 (OA.recv hS h_x0r0.OA (C := RX1) rfl) hd_X1_angleUpper rfl ⟨Nat.le_of_ble_eq_true rfl, Nat.le_of_ble_eq_true rfl⟩ hS ⟨h_x0r0, h_x0r0r0, h_x0r0r1, h_x0r0r2⟩ hl.1 rfl (Nat.le_of_ble_eq_true rfl) dX0_areAngles_194 ⟨Nat.le_of_ble_eq_true rfl, Nat.le_of_ble_eq_true rfl⟩) ?_
              refine lv_ldc hx hb (v := (-2147483648)) hown (hts _ q1505) dX0_areAngles_197 ?_
              refine lv_icmp_ne (tgt := 221) hx hb dX0_areAngles_199 (by decide) (fun c227 => ?_) (fun c227 => ?_)
              · have h := it_neg h c227
                exact HK220  h H locs hS hF h_x0 h_x0r0 h_x0r0r0 h_x0r0r1 h_x0r0r2 ls (lv_sub hl [5, 6, 4, 3] rfl)
              · have h := it_pos h c227
                refine lv_aload_n hx hb dX0_areAngles_202 rfl (lv_at hl 5 rfl) ?_
                refine r_get hx hb hts hown hS h_x0 rfl in_X0 0 (by decide) q936 rfl (v := .ref x0r0) rfl dX0_areAngles_203 ?_
                refine lv_iconst (v := 2) hx hb dX0_areAngles_206 (by decide) ?_
                obtain ⟨o228, eo228, h⟩ := bind_step h
                refine r_cp (r_runV (rest := []) (As := [.int 2]) hC 1 (m_X1_house x0r0 x0r0r0 x0r0r1 x0r0r2  o11.2.2.2.1 x0r0r1c o11.2.2.2.2 o11.2.1 x0r0f4 o11.2.2.1 x0r0f6 2 o228 eo228) q1248 q1249 q1250 q46 q1251 (OA.recv hS h_x0r0.OA (C := RX1) rfl) hd_X1_house rfl ⟨Nat.le_of_ble_eq_true rfl, Nat.le_of_ble_eq_true rfl⟩ hS ⟨h_x0r0, h_x0r0r0, h_x0r0r1, h_x0r0r2⟩ hl.1 rfl (Nat.le_of_ble_eq_true rfl) dX0_areAngles_207 ⟨Nat.le_of_ble_eq_true rfl, Nat.le_of_ble_eq_true rfl⟩) ?_
                refine lv_iload hx hb dX0_areAngles_210 (lv_at hl 2 rfl) ?_
                refine lv_iconst (v := 2) hx hb dX0_areAngles_212 (by decide) ?_
                obtain ⟨v229, ev229, h⟩ := lti_step h
                refine r_iadd hx hb ev229 dX0_areAngles_213 ?_
                refine lv_icmp_ne (tgt := 221) hx hb dX0_areAngles_214 (by decide) (fun c230 => ?_) (fun c230 => ?_)
                · have h := it_neg h c230
                  exact HK220  h H locs hS hF h_x0 h_x0r0 h_x0r0r0 h_x0r0r1 h_x0r0r2 ls (lv_sub hl [5, 6, 4, 3] rfl)
                · have h := it_pos h c230
                  refine lv_iconst (v := 1) hx hb dX0_areAngles_217 (by decide) ?_
                  refine lv_goto (tgt := 222) hx hb dX0_areAngles_218 (by decide) ?_
                  refine W.widen (k := 3209) (n := 33470) (Nat.le_of_ble_eq_true rfl) (Nat.le_of_ble_eq_true rfl) ?_
                  exact HK18 o11.2.2.2.1 o11.2.2.2.2 o11.2.1 true h H locs hS hF h_x0 h_x0r0 h_x0r0r0 h_x0r0r1 h_x0r0r2 ls (lv_sub hl [5, 6, 4, 3] rfl)
      · have h := it_pos h (by rw [c219])
        refine lv_iload hx hb dX0_areAngles_96 (lv_at hl 1 rfl) ?_
        refine lv_lload_n hx hb dX0_areAngles_98 rfl (lv_at hl 4 rfl) ?_
        refine lv_lconst (v := 0) hx hb dX0_areAngles_99 rfl ?_
        obtain ⟨v231, ev231, h⟩ := lti_step h
        refine r_lcmp hx hb ev231 dX0_areAngles_100 ?_
        obtain ⟨K233, eK233, h⟩ := lt_step h
        have HK233 : ∀ (v232 : Bool) (h : K233 v232 = some r) (H : Heap) (locs : List Loc) (hS : St D s H locs) (hF : Off (fun a => a = x0r0 ∨ a = x0r0r0 ∨ a = x0r0r2) s.heap H) (h_x0 : OA D 1 x0 [.ref x0r0] H) (h_x0r0 : ON D 0 x0r0 [.ref x0r0r0, .ref x0r0r1, .ref x0r0r2, .int o11.2.1, .int x0r0f4, .int o11.2.2.1, .int x0r0f6] H) (h_x0r0r0 : aD D x0r0r0 8 o11.2.2.2.1 H) (h_x0r0r1 : aD D x0r0r1 8 x0r0r1c H) (h_x0r0r2 : aZ D x0r0r2 8 o11.2.2.2.2 H) (ls : Array Slot) (hl : lv_has ls 19 [(0, .ref x0), (1, .int x1), (3, .long o5), (5, .long o6), (7, .int o7), (9, .int o11.1)]), W p l e R_X0_areAngles s m A below meth c H locs 2930 30596 Q (F0 m 109 ls [.int (bI v232), .int o10.1]) := by
          intro v232 h H locs hS hF h_x0 h_x0r0 h_x0r0r0 h_x0r0r1 h_x0r0r2 ls hl
          subst eK233
          obtain ⟨K237, eK237, h⟩ := lt_step h
          have HK237 : ∀ (f234 : Nat → UInt64) (f235 : Nat → Int32) (v236 : Int32) (h : K237 f234 f235 v236 = some r) (H : Heap) (locs : List Loc) (hS : St D s H locs) (hF : Off (fun a => a = x0r0 ∨ a = x0r0r0 ∨ a = x0r0r2) s.heap H) (h_x0 : OA D 1 x0 [.ref x0r0] H) (h_x0r0 : ON D 0 x0r0 [.ref x0r0r0, .ref x0r0r1, .ref x0r0r2, .int v236, .int x0r0f4, .int o11.2.2.1, .int x0r0f6] H) (h_x0r0r0 : aD D x0r0r0 8 f234 H) (h_x0r0r1 : aD D x0r0r1 8 x0r0r1c H) (h_x0r0r2 : aZ D x0r0r2 8 f235 H) (ls : Array Slot) (hl : lv_has ls 19 [(0, .ref x0), (1, .int x1), (3, .long o5), (5, .long o6)]), W p l e R_X0_areAngles s m A below meth c H locs 3209 33470 Q (F0 m 161 ls []) := by
            intro f234 f235 v236 h H locs hS hF h_x0 h_x0r0 h_x0r0r0 h_x0r0r1 h_x0r0r2 ls hl
            subst eK237
            refine lv_iconst (v := 0) hx hb dX0_areAngles_161 (by decide) ?_
            refine lv_goto (tgt := 222) hx hb dX0_areAngles_162 (by decide) ?_
            exact HK18 f234 f235 v236 false h H locs hS hF h_x0 h_x0r0 h_x0r0r0 h_x0r0r1 h_x0r0r2 ls (lv_sub hl [0, 1, 2, 3] rfl)
          clear eK237
          refine lv_icmp_ne (tgt := 161) hx hb dX0_areAngles_109 (by decide) (fun c238 => ?_) (fun c238 => ?_)
          · have h := it_neg h c238
            refine W.widen (k := 3209) (n := 33470) (Nat.le_of_ble_eq_true rfl) (Nat.le_of_ble_eq_true rfl) ?_
            exact HK237 o11.2.2.2.1 o11.2.2.2.2 o11.2.1 h H locs hS hF h_x0 h_x0r0 h_x0r0r0 h_x0r0r1 h_x0r0r2 ls (lv_sub hl [0, 1, 2, 3] rfl)
          · have h := it_pos h c238
            refine lv_iload hx hb dX0_areAngles_112 (lv_at hl 5 rfl) ?_
            refine lv_iconst (v := 1) hx hb dX0_areAngles_114 (by decide) ?_
            refine lv_icmp_ne (tgt := 161) hx hb dX0_areAngles_115 (by decide) (fun c239 => ?_) (fun c239 => ?_)
            · have h := it_neg h c239
              refine W.widen (k := 3209) (n := 33470) (Nat.le_of_ble_eq_true rfl) (Nat.le_of_ble_eq_true rfl) ?_
              exact HK237 o11.2.2.2.1 o11.2.2.2.2 o11.2.1 h H locs hS hF h_x0 h_x0r0 h_x0r0r0 h_x0r0r1 h_x0r0r2 ls (lv_sub hl [0, 1, 2, 3] rfl)
            · have h := it_pos h c239
              refine lv_aload_n hx hb dX0_areAngles_118 rfl (lv_at hl 0 rfl) ?_
              refine lv_iconst (v := 2) hx hb dX0_areAngles_119 (by decide) ?_
              obtain ⟨o240, eo240, h⟩ := bind_step h
              refine r_cl (r_runV (rest := []) (As := [.int 2]) hC 1 (m_X0_its x0 x0r0 x0r0r0 x0r0r1 x0r0r2  o11.2.2.2.1 x0r0r1c o11.2.2.2.2 o11.2.1 x0r0f4 o11.2.2.1 x0r0f6 2 o240 eo240) q944 q946 qs10 q39 q947 (OA.recv hS h_x0 (C := RX0) rfl) hd_X0_its rfl ⟨Nat.le_of_ble_eq_true rfl, Nat.le_of_ble_eq_true rfl⟩ hS ⟨h_x0, h_x0r0, h_x0r0r0, h_x0r0r1, h_x0r0r2⟩ hl.1 rfl (Nat.le_of_ble_eq_true rfl) dX0_areAngles_120 ⟨Nat.le_of_ble_eq_true rfl, Nat.le_of_ble_eq_true rfl⟩) hS (fun b H locs hp hS hz => ?_)
              obtain ⟨eb_, hO⟩ := hp
              rw [eb_]
              have h_x0 := h_x0.ext hO
              have h_x0r0 := h_x0r0.ext hO
              have h_x0r0r0 := h_x0r0r0.ext hO
              have h_x0r0r1 := h_x0r0r1.ext hO
              have h_x0r0r2 := h_x0r0r2.ext hO
              have hF := hF.trans (hO.mono (fun _ _ z => z.elim))
              refine lv_ldc2 hx hb (v := 2) hown (hts _ q1518) dX0_areAngles_123 ?_
              refine lv_lload_n hx hb dX0_areAngles_126 rfl (lv_at hl 2 rfl) ?_
              obtain ⟨v241, ev241, h⟩ := ltl_step h
              refine r_lmul hx hb ev241 dX0_areAngles_127 ?_
              obtain ⟨v242, ev242, h⟩ := lti_step h
              refine r_lcmp hx hb ev242 dX0_areAngles_128 ?_
              refine lv_if_ne (tgt := 161) hx hb dX0_areAngles_129 (by decide) (fun c243 => ?_) (fun c243 => ?_)
              · have h := it_neg h c243
                refine W.widen (k := 3209) (n := 33470) (Nat.le_of_ble_eq_true rfl) (Nat.le_of_ble_eq_true rfl) ?_
                exact HK237 o11.2.2.2.1 o11.2.2.2.2 o11.2.1 h H locs hS hF h_x0 h_x0r0 h_x0r0r0 h_x0r0r1 h_x0r0r2 ls (lv_sub hl [0, 1, 2, 3] rfl)
              · have h := it_pos h c243
                refine lv_aload_n hx hb dX0_areAngles_132 rfl (lv_at hl 0 rfl) ?_
                refine r_get hx hb hts hown hS h_x0 rfl in_X0 0 (by decide) q936 rfl (v := .ref x0r0) rfl dX0_areAngles_133 ?_
                refine lv_iconst (v := 2) hx hb dX0_areAngles_136 (by decide) ?_
                refine lv_iconst (v := 3) hx hb dX0_areAngles_137 (by decide) ?_
                obtain ⟨o244, eo244, h⟩ := bind_step h
                refine r_ci (r_runV (rest := []) (As := [.int 2, .int 3]) hC 2 (m_X1_angleCopy x0r0 x0r0r0 x0r0r1 x0r0r2  o11.2.2.2.1 x0r0r1c o11.2.2.2.2 o11.2.1 x0r0f4 o11.2.2.1 x0r0f6 2 3 o244 eo244) q1514 q1515 q1516 q46 q1517 (OA.recv hS h_x0r0.OA (C := RX1) rfl) hd_X1_angleCopy rfl ⟨Nat.le_of_ble_eq_true rfl, Nat.le_of_ble_eq_true rfl⟩ hS ⟨h_x0r0, hB_h_x0r0, h_x0r0r0, hB_h_x0r0r0, h_x0r0r1, h_x0r0r2, hB_h_x0r0r2, ne_x0r0_x0r0r0, ne_x0r0_x0r0r1, ne_x0r0_x0r0r2, ne_x0r0r0_x0r0r1, ne_x0r0r0_x0r0r2, ne_x0r0r1_x0r0r2⟩ hl.1 rfl (Nat.le_of_ble_eq_true rfl) dX0_areAngles_138 ⟨Nat.le_of_ble_eq_true rfl, Nat.le_of_ble_eq_true rfl⟩) hS (fun b H locs hp hS hz => ?_)
                obtain ⟨rfl, h_x0r0, h_x0r0r0, h_x0r0r2, hO⟩ := hp
                have h_x0 := h_x0.off hO (fun z => by rcases z with z | z | z <;> first | exact ne_x0_x0r0 z | exact ne_x0_x0r0r0 z | exact ne_x0_x0r0r2 z)
                have h_x0r0r1 := h_x0r0r1.off hO (fun z => by rcases z with z | z | z <;> first | exact (Ne.symm ne_x0r0_x0r0r1) z | exact (Ne.symm ne_x0r0r0_x0r0r1) z | exact ne_x0r0r1_x0r0r2 z)
                have hF := hF.fresh hO (fun a ha z => by
                  rcases z with z | z | z
                  · exact Or.inl z
                  · exact Or.inr (Or.inl z)
                  · exact Or.inr (Or.inr (z)))
                refine lv_if_ne (tgt := 161) hx hb dX0_areAngles_141 (by decide) (fun c245 => ?_) (fun c245 => ?_)
                · have h := it_neg h c245
                  exact HK237 o244.2.2.1 o244.2.2.2 o244.2.1 h H locs hS hF h_x0 h_x0r0 h_x0r0r0 h_x0r0r1 h_x0r0r2 ls (lv_sub hl [0, 1, 2, 3] rfl)
                · have h := it_pos h c245
                  refine lv_aload_n hx hb dX0_areAngles_144 rfl (lv_at hl 0 rfl) ?_
                  refine r_get hx hb hts hown hS h_x0 rfl in_X0 0 (by decide) q936 rfl (v := .ref x0r0) rfl dX0_areAngles_145 ?_
                  refine lv_iconst (v := 2) hx hb dX0_areAngles_148 (by decide) ?_
                  obtain ⟨o246, eo246, h⟩ := bind_step h
                  refine r_cp (r_runV (rest := []) (As := [.int 2]) hC 1 (m_X1_house x0r0 x0r0r0 x0r0r1 x0r0r2  o244.2.2.1 x0r0r1c o244.2.2.2 o244.2.1 x0r0f4 o11.2.2.1 x0r0f6 2 o246 eo246) q1248 q1249 q1250 q46 q1251 (OA.recv hS h_x0r0.OA (C := RX1) rfl) hd_X1_house rfl ⟨Nat.le_of_ble_eq_true rfl, Nat.le_of_ble_eq_true rfl⟩ hS ⟨h_x0r0, h_x0r0r0, h_x0r0r1, h_x0r0r2⟩ hl.1 rfl (Nat.le_of_ble_eq_true rfl) dX0_areAngles_149 ⟨Nat.le_of_ble_eq_true rfl, Nat.le_of_ble_eq_true rfl⟩) ?_
                  refine lv_iload hx hb dX0_areAngles_152 (lv_at hl 4 rfl) ?_
                  refine lv_icmp_ne (tgt := 161) hx hb dX0_areAngles_154 (by decide) (fun c247 => ?_) (fun c247 => ?_)
                  · have h := it_neg h c247
                    exact HK237 o244.2.2.1 o244.2.2.2 o244.2.1 h H locs hS hF h_x0 h_x0r0 h_x0r0r0 h_x0r0r1 h_x0r0r2 ls (lv_sub hl [0, 1, 2, 3] rfl)
                  · have h := it_pos h c247
                    refine lv_iconst (v := 1) hx hb dX0_areAngles_157 (by decide) ?_
                    refine lv_goto (tgt := 222) hx hb dX0_areAngles_158 (by decide) ?_
                    exact HK18 o244.2.2.1 o244.2.2.2 o244.2.1 true h H locs hS hF h_x0 h_x0r0 h_x0r0r0 h_x0r0r1 h_x0r0r2 ls (lv_sub hl [0, 1, 2, 3] rfl)
        clear eK233
        refine lv_if_ne (tgt := 108) hx hb dX0_areAngles_101 (by decide) (fun c248 => ?_) (fun c248 => ?_)
        · have h := it_neg h c248
          refine lv_iconst (v := 1) hx hb dX0_areAngles_108 (by decide) ?_
          exact HK233 true h H locs hS hF h_x0 h_x0r0 h_x0r0r0 h_x0r0r1 h_x0r0r2 ls (lv_sub hl [5, 6, 4, 3, 2, 0] rfl)
        · have h := it_pos h c248
          refine lv_iconst (v := 0) hx hb dX0_areAngles_104 (by decide) ?_
          refine lv_goto (tgt := 109) hx hb dX0_areAngles_105 (by decide) ?_
          exact HK233 false h H locs hS hF h_x0 h_x0r0 h_x0r0r0 h_x0r0r1 h_x0r0r2 ls (lv_sub hl [5, 6, 4, 3, 2, 0] rfl)
    · have h := it_neg h (by rw [c4]; decide)
      refine lv_iconst (v := 0) hx hb dX0_areAngles_18 (by decide) ?_
      obtain rfl := Option.some.inj h
      rw [eQ]
      exact r_zret hx hb hr hlk hS (by decide) (Nat.le_of_ble_eq_true rfl) (Nat.le_of_ble_eq_true rfl) dX0_areAngles_19 ⟨_, rfl, rfl, h_x0r0, h_x0r0r0, h_x0r0r2, hF⟩

