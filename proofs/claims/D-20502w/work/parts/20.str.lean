/-! Integer, Long, AbstractStringBuilder, StringBuilder, String: by tools/gen20.py -/
abbrev R_J26_stringSize : Room := { frames := 0, cells := 0, slots := 0, locals := 0 }
noncomputable def f_J26_stringSize (x0 : Int32) : Option (Int32) :=
  lt (fun (v1 : Int32) (v2 : Bool) =>
  lt (fun (v4 : Int32) (v5 : Int32) =>
  (show Option (Sum (Int32 × Int32) (Int32)) from (
  (if 10 ≤ v5 then
    lti (10 + (bI v2)) fun v16 =>
    some (.inr v16)
  else
    (if v1 ≤ v4 then
      lti (10 * v4) fun v18 =>
      lti (v5 + 1) fun v19 =>
      some (.inl (v18, v19))
    else
      lti (v5 + (bI v2)) fun v20 =>
      some (.inr v20)
    )
  )
  ))
  ) fun F12 =>
  Option.bind (lp 11 (fun x => F12 x.1 x.2) ((-10), 1)) fun w13 =>
  (some w13)
  ) fun K3 =>
  (if x0 < 0 then
    K3 x0 true
  else
    lti (-x0) fun v22 =>
    K3 v22 false
  )
theorem hd_J26_stringSize : Hd yJ26_stringSize 1 := by unfold Hd; decide +kernel
set_option maxHeartbeats 4000000 in
set_option maxRecDepth 100000 in
theorem m_J26_stringSize {l : Launch} {D : DD}   (x0 : Int32) (r : Int32) (h : f_J26_stringSize x0 = some r) : MP l D yJ26_stringSize cJ26_stringSize 4 (some .int) 0 0 [.int x0] NoPre (some (.int r)) := by
  refine MP.start (by decide +kernel) (Nat.le_of_ble_eq_true rfl) ?_
  intro p e s m below meth c ls hC hS hp hl
  obtain ⟨hx, hb, hr, hlk, hml, hown, hts, hnm⟩ := id hC
  have hl : lv_has ls 4 [(0, .int x0)] := hl
  unfold f_J26_stringSize at h
  have hS0 := hS
  obtain ⟨A, eA⟩ : ∃ A : Array Value, A = [.int x0].toArray := ⟨_, rfl⟩
  rw [← eA] at hC hts ⊢
  obtain ⟨Q, eQ⟩ : ∃ Q : State → Prop, Q = MQ below (PQ (some (.int r))) A s 0 0 (fun _ => False) := ⟨_, rfl⟩
  show W p l e R_J26_stringSize s m A below meth c s.heap [] 0 0 _ _
  rw [← eQ]
  refine lv_iconst (v := 1) hx hb dJ26_stringSize_0 (by decide) ?_
  refine lv_istore_n (lv' := [(1, .int 1), (0, .int x0)]) hx hb dJ26_stringSize_1 rfl hl (by decide) rfl (fun ls hl => ?_)
  refine lv_iload_n hx hb dJ26_stringSize_2 rfl (lv_at hl 1 rfl) ?_
  obtain ⟨K3, eK3, h⟩ := lt_step h
  have HK3 : ∀ (v1 : Int32) (v2 : Bool) (h : K3 v1 v2 = some r)  (ls : Array Slot) (hl : lv_has ls 4 [(0, .int v1), (1, .int (bI v2))]), W p l e R_J26_stringSize s m A below meth c s.heap [] 0 0 Q (F0 m 11 ls []) := by
    intro v1 v2 h  ls hl
    subst eK3
    refine lv_bipush (v := (-10)) hx hb dJ26_stringSize_11 (by decide) ?_
    refine lv_istore_n (lv' := [(2, .int (-10)), (0, .int v1), (1, .int (bI v2))]) hx hb dJ26_stringSize_13 rfl hl (by decide) rfl (fun ls hl => ?_)
    refine lv_iconst (v := 1) hx hb dJ26_stringSize_14 (by decide) ?_
    refine lv_istore_n (lv' := [(3, .int 1), (2, .int (-10)), (0, .int v1), (1, .int (bI v2))]) hx hb dJ26_stringSize_15 rfl hl (by decide) rfl (fun ls hl => ?_)
    obtain ⟨F12, eF12, h⟩ := lt_step h
    obtain ⟨w13, ew13, h⟩ := bind_step h
    have HL : ∀ (n : Nat) (v4 : Int32) (v5 : Int32) (w13 : Int32) (hk0 : lp n (fun x => F12 x.1 x.2) (v4, v5) = some w13)   (ls : Array Slot) (hl : lv_has ls 4 [(0, .int v1), (1, .int (bI v2)), (2, .int v4), (3, .int v5)]) (KR : ∀ rt, w13 = rt → rt = r), W p l e R_J26_stringSize s m A below meth c s.heap [] 0 0 Q (F0 m 16 ls []) := by
      intro n
      induction n with
      | zero => intro v4 v5 w13 hk0   ls hl KR; exact lp_zero hk0
      | succ n ih =>
        intro v4 v5 w13 hk0   ls hl KR
        obtain ⟨z14, hz, hk⟩ := lp_step hk0
        have h := (congrFun (congrFun (eF12) v4) v5).symm.trans hz
        refine lv_iload_n hx hb dJ26_stringSize_16 rfl (lv_at hl 3 rfl) ?_
        refine lv_bipush (v := 10) hx hb dJ26_stringSize_17 (by decide) ?_
        refine lv_icmp_ge (tgt := 42) hx hb dJ26_stringSize_19 (by decide) (fun c15 => ?_) (fun c15 => ?_)
        · have h := it_pos h c15
          refine lv_bipush (v := 10) hx hb dJ26_stringSize_42 (by decide) ?_
          refine lv_iload_n hx hb dJ26_stringSize_44 rfl (lv_at hl 1 rfl) ?_
          obtain ⟨v16, ev16, h⟩ := lti_step h
          refine r_iadd hx hb ev16 dJ26_stringSize_45 ?_
          obtain rfl := Option.some.inj h
          have h := congrArg some (KR _ hk.symm)
          obtain rfl := Option.some.inj h
          rw [eQ]
          exact p_iret hx hb hr hlk dJ26_stringSize_46 rfl
        · have h := it_neg h c15
          refine lv_iload_n hx hb dJ26_stringSize_22 rfl (lv_at hl 0 rfl) ?_
          refine lv_iload_n hx hb dJ26_stringSize_23 rfl (lv_at hl 2 rfl) ?_
          refine lv_icmp_le (tgt := 31) hx hb dJ26_stringSize_24 (by decide) (fun c17 => ?_) (fun c17 => ?_)
          · have h := it_pos h c17
            refine lv_bipush (v := 10) hx hb dJ26_stringSize_31 (by decide) ?_
            refine lv_iload_n hx hb dJ26_stringSize_33 rfl (lv_at hl 2 rfl) ?_
            obtain ⟨v18, ev18, h⟩ := lti_step h
            refine r_imul hx hb ev18 dJ26_stringSize_34 ?_
            refine lv_istore_n (lv' := [(2, .int v18), (0, .int v1), (1, .int (bI v2)), (3, .int v5)]) hx hb dJ26_stringSize_35 rfl hl (by decide) rfl (fun ls hl => ?_)
            obtain ⟨v19, ev19, h⟩ := lti_step h
            refine lv_iinc (v := v19) (lv' := [(3, .int v19), (2, .int v18), (0, .int v1), (1, .int (bI v2))]) hx hb dJ26_stringSize_36 hl (k := 3) rfl (by rw [ev19]; rfl) (by decide) rfl (fun ls hl => ?_)
            refine lv_goto (tgt := 16) hx hb dJ26_stringSize_39 (by decide) ?_
            obtain rfl := Option.some.inj h
            exact ih v18 v19 w13 hk   ls (lv_sub hl [2, 3, 1, 0] rfl) KR
          · have h := it_neg h c17
            refine lv_iload_n hx hb dJ26_stringSize_27 rfl (lv_at hl 3 rfl) ?_
            refine lv_iload_n hx hb dJ26_stringSize_28 rfl (lv_at hl 1 rfl) ?_
            obtain ⟨v20, ev20, h⟩ := lti_step h
            refine r_iadd hx hb ev20 dJ26_stringSize_29 ?_
            obtain rfl := Option.some.inj h
            have h := congrArg some (KR _ hk.symm)
            obtain rfl := Option.some.inj h
            rw [eQ]
            exact p_iret hx hb hr hlk dJ26_stringSize_30 rfl
    clear eF12
    refine HL 11 (-10) 1 w13 ew13   ls (lv_sub hl [2, 3, 1, 0] rfl) (fun rt eR => ?_)
    subst eR
    exact Option.some.inj h
  clear eK3
  refine lv_if_lt (tgt := 11) hx hb dJ26_stringSize_3 (by decide) (fun c21 => ?_) (fun c21 => ?_)
  · have h := it_pos h c21
    exact HK3 x0 true h  ls (lv_sub hl [1, 0] rfl)
  · have h := it_neg h c21
    refine lv_iconst (v := 0) hx hb dJ26_stringSize_6 (by decide) ?_
    refine lv_istore_n (lv' := [(1, .int 0), (0, .int x0)]) hx hb dJ26_stringSize_7 rfl hl (by decide) rfl (fun ls hl => ?_)
    refine lv_iload_n hx hb dJ26_stringSize_8 rfl (lv_at hl 1 rfl) ?_
    obtain ⟨v22, ev22, h⟩ := lti_step h
    refine r_ineg hx hb ev22 dJ26_stringSize_9 ?_
    refine lv_istore_n (lv' := [(0, .int v22), (1, .int 0)]) hx hb dJ26_stringSize_10 rfl hl (by decide) rfl (fun ls hl => ?_)
    exact HK3 v22 false h  ls (lv_sub hl [0, 1] rfl)

abbrev R_J27_stringSize : Room := { frames := 0, cells := 0, slots := 0, locals := 0 }
noncomputable def f_J27_stringSize (x0 : Int64) : Option (Int32) :=
  lti (lg_cmp x0 0) fun v1 =>
  lt (fun (v2 : Int64) (v3 : Bool) =>
  lt (fun (v5 : Int64) (v6 : Int32) =>
  (show Option (Sum (Int64 × Int32) (Int32)) from (
  (if 19 ≤ v6 then
    lti (19 + (bI v3)) fun v18 =>
    some (.inr v18)
  else
    lti (lg_cmp v2 v5) fun v19 =>
    (if v19 ≤ 0 then
      ltl ((10 * v5 : Int64)) fun v21 =>
      lti (v6 + 1) fun v22 =>
      some (.inl (v21, v22))
    else
      lti (v6 + (bI v3)) fun v23 =>
      some (.inr v23)
    )
  )
  ))
  ) fun F14 =>
  Option.bind (lp 20 (fun x => F14 x.1 x.2) ((-10), 1)) fun w15 =>
  (some w15)
  ) fun K4 =>
  (if v1 < 0 then
    K4 x0 true
  else
    ltl (-x0) fun v25 =>
    K4 v25 false
  )
theorem hd_J27_stringSize : Hd yJ27_stringSize 1 := by unfold Hd; decide +kernel
set_option maxHeartbeats 4000000 in
set_option maxRecDepth 100000 in
theorem m_J27_stringSize {l : Launch} {D : DD}   (x0 : Int64) (r : Int32) (h : f_J27_stringSize x0 = some r) : MP l D yJ27_stringSize cJ27_stringSize 6 (some .int) 0 0 [.long x0] NoPre (some (.int r)) := by
  refine MP.start (by decide +kernel) (Nat.le_of_ble_eq_true rfl) ?_
  intro p e s m below meth c ls hC hS hp hl
  obtain ⟨hx, hb, hr, hlk, hml, hown, hts, hnm⟩ := id hC
  have hl : lv_has ls 6 [(0, .long x0)] := hl
  unfold f_J27_stringSize at h
  have hS0 := hS
  obtain ⟨A, eA⟩ : ∃ A : Array Value, A = [.long x0].toArray := ⟨_, rfl⟩
  rw [← eA] at hC hts ⊢
  obtain ⟨Q, eQ⟩ : ∃ Q : State → Prop, Q = MQ below (PQ (some (.int r))) A s 0 0 (fun _ => False) := ⟨_, rfl⟩
  show W p l e R_J27_stringSize s m A below meth c s.heap [] 0 0 _ _
  rw [← eQ]
  refine lv_iconst (v := 1) hx hb dJ27_stringSize_0 (by decide) ?_
  refine lv_istore_n (lv' := [(2, .int 1), (0, .long x0)]) hx hb dJ27_stringSize_1 rfl hl (by decide) rfl (fun ls hl => ?_)
  refine lv_lload_n hx hb dJ27_stringSize_2 rfl (lv_at hl 1 rfl) ?_
  refine lv_lconst (v := 0) hx hb dJ27_stringSize_3 rfl ?_
  obtain ⟨v1, ev1, h⟩ := lti_step h
  refine r_lcmp hx hb ev1 dJ27_stringSize_4 ?_
  obtain ⟨K4, eK4, h⟩ := lt_step h
  have HK4 : ∀ (v2 : Int64) (v3 : Bool) (h : K4 v2 v3 = some r)  (ls : Array Slot) (hl : lv_has ls 6 [(0, .long v2), (2, .int (bI v3))]), W p l e R_J27_stringSize s m A below meth c s.heap [] 0 0 Q (F0 m 13 ls []) := by
    intro v2 v3 h  ls hl
    subst eK4
    refine lv_ldc2 hx hb (v := (-10)) hown (hts _ q1015) dJ27_stringSize_13 ?_
    refine lv_lstore_n (lv' := [(3, .long (-10)), (0, .long v2), (2, .int (bI v3))]) hx hb dJ27_stringSize_16 rfl hl (by decide) rfl (fun ls hl => ?_)
    refine lv_iconst (v := 1) hx hb dJ27_stringSize_17 (by decide) ?_
    refine lv_istore (lv' := [(5, .int 1), (3, .long (-10)), (0, .long v2), (2, .int (bI v3))]) hx hb dJ27_stringSize_18 hl (by decide) rfl (fun ls hl => ?_)
    obtain ⟨F14, eF14, h⟩ := lt_step h
    obtain ⟨w15, ew15, h⟩ := bind_step h
    have HL : ∀ (n : Nat) (v5 : Int64) (v6 : Int32) (w15 : Int32) (hk0 : lp n (fun x => F14 x.1 x.2) (v5, v6) = some w15)   (ls : Array Slot) (hl : lv_has ls 6 [(0, .long v2), (2, .int (bI v3)), (3, .long v5), (5, .int v6)]) (KR : ∀ rt, w15 = rt → rt = r), W p l e R_J27_stringSize s m A below meth c s.heap [] 0 0 Q (F0 m 20 ls []) := by
      intro n
      induction n with
      | zero => intro v5 v6 w15 hk0   ls hl KR; exact lp_zero hk0
      | succ n ih =>
        intro v5 v6 w15 hk0   ls hl KR
        obtain ⟨z16, hz, hk⟩ := lp_step hk0
        have h := (congrFun (congrFun (eF14) v5) v6).symm.trans hz
        refine lv_iload hx hb dJ27_stringSize_20 (lv_at hl 3 rfl) ?_
        refine lv_bipush (v := 19) hx hb dJ27_stringSize_22 (by decide) ?_
        refine lv_icmp_ge (tgt := 50) hx hb dJ27_stringSize_24 (by decide) (fun c17 => ?_) (fun c17 => ?_)
        · have h := it_pos h c17
          refine lv_bipush (v := 19) hx hb dJ27_stringSize_50 (by decide) ?_
          refine lv_iload_n hx hb dJ27_stringSize_52 rfl (lv_at hl 1 rfl) ?_
          obtain ⟨v18, ev18, h⟩ := lti_step h
          refine r_iadd hx hb ev18 dJ27_stringSize_53 ?_
          obtain rfl := Option.some.inj h
          have h := congrArg some (KR _ hk.symm)
          obtain rfl := Option.some.inj h
          rw [eQ]
          exact p_iret hx hb hr hlk dJ27_stringSize_54 rfl
        · have h := it_neg h c17
          refine lv_lload_n hx hb dJ27_stringSize_27 rfl (lv_at hl 0 rfl) ?_
          refine lv_lload_n hx hb dJ27_stringSize_28 rfl (lv_at hl 2 rfl) ?_
          obtain ⟨v19, ev19, h⟩ := lti_step h
          refine r_lcmp hx hb ev19 dJ27_stringSize_29 ?_
          refine lv_if_le (tgt := 38) hx hb dJ27_stringSize_30 (by decide) (fun c20 => ?_) (fun c20 => ?_)
          · have h := it_pos h c20
            refine lv_ldc2 hx hb (v := 10) hown (hts _ q1016) dJ27_stringSize_38 ?_
            refine lv_lload_n hx hb dJ27_stringSize_41 rfl (lv_at hl 2 rfl) ?_
            obtain ⟨v21, ev21, h⟩ := ltl_step h
            refine r_lmul hx hb ev21 dJ27_stringSize_42 ?_
            refine lv_lstore_n (lv' := [(3, .long v21), (0, .long v2), (2, .int (bI v3)), (5, .int v6)]) hx hb dJ27_stringSize_43 rfl hl (by decide) rfl (fun ls hl => ?_)
            obtain ⟨v22, ev22, h⟩ := lti_step h
            refine lv_iinc (v := v22) (lv' := [(5, .int v22), (3, .long v21), (0, .long v2), (2, .int (bI v3))]) hx hb dJ27_stringSize_44 hl (k := 3) rfl (by rw [ev22]; rfl) (by decide) rfl (fun ls hl => ?_)
            refine lv_goto (tgt := 20) hx hb dJ27_stringSize_47 (by decide) ?_
            obtain rfl := Option.some.inj h
            exact ih v21 v22 w15 hk   ls (lv_sub hl [2, 3, 1, 0] rfl) KR
          · have h := it_neg h c20
            refine lv_iload hx hb dJ27_stringSize_33 (lv_at hl 3 rfl) ?_
            refine lv_iload_n hx hb dJ27_stringSize_35 rfl (lv_at hl 1 rfl) ?_
            obtain ⟨v23, ev23, h⟩ := lti_step h
            refine r_iadd hx hb ev23 dJ27_stringSize_36 ?_
            obtain rfl := Option.some.inj h
            have h := congrArg some (KR _ hk.symm)
            obtain rfl := Option.some.inj h
            rw [eQ]
            exact p_iret hx hb hr hlk dJ27_stringSize_37 rfl
    clear eF14
    refine HL 20 (-10) 1 w15 ew15   ls (lv_sub hl [2, 3, 1, 0] rfl) (fun rt eR => ?_)
    subst eR
    exact Option.some.inj h
  clear eK4
  refine lv_if_lt (tgt := 13) hx hb dJ27_stringSize_5 (by decide) (fun c24 => ?_) (fun c24 => ?_)
  · have h := it_pos h c24
    exact HK4 x0 true h  ls (lv_sub hl [1, 0] rfl)
  · have h := it_neg h c24
    refine lv_iconst (v := 0) hx hb dJ27_stringSize_8 (by decide) ?_
    refine lv_istore_n (lv' := [(2, .int 0), (0, .long x0)]) hx hb dJ27_stringSize_9 rfl hl (by decide) rfl (fun ls hl => ?_)
    refine lv_lload_n hx hb dJ27_stringSize_10 rfl (lv_at hl 1 rfl) ?_
    obtain ⟨v25, ev25, h⟩ := ltl_step h
    refine r_lneg hx hb ev25 dJ27_stringSize_11 ?_
    refine lv_lstore_n (lv' := [(0, .long v25), (2, .int 0)]) hx hb dJ27_stringSize_12 rfl hl (by decide) rfl (fun ls hl => ?_)
    exact HK4 v25 false h  ls (lv_sub hl [0, 1] rfl)

abbrev R_J26_getChars : Room := { frames := 0, cells := 0, slots := 0, locals := 0 }
noncomputable def f_J26_getChars (x0 : Int32) (x1 : Int32) (x2n : Nat) (x2c : Nat → Int32) : Option (Int32 × (Nat → Int32)) :=
  lt (fun (v1 : Bool) =>
  (if v1 = true then
    lt (fun (f4 : Nat → Int32) (v5 : Int32) (v6 : Int32) =>
    (show Option (Sum ((Nat → Int32) × Int32 × Int32) ((Nat → Int32) × Int32 × Int32)) from (
    (if (-100) < v5 then
      some (.inr (f4, v5, v6))
    else
      lti (v5 / 100) fun v28 =>
      lti (v28 * 100) fun v29 =>
      lti (v29 - v5) fun v30 =>
      lti (v6 + (-1)) fun v31 =>
      gd 100 v30 fun i32 =>
      lti (tb_DigitOnes i32) fun v33 =>
      gd x2n v31 fun i34 =>
      lt (va_up f4 i34 ((v33 : Int32).toInt8.toInt32)) fun f35 =>
      lti (v31 + (-1)) fun v36 =>
      gd 100 v30 fun i37 =>
      lti (tb_DigitTens i37) fun v38 =>
      gd x2n v36 fun i39 =>
      lt (va_up f35 i39 ((v38 : Int32).toInt8.toInt32)) fun f40 =>
      some (.inl (f40, v28, v36))
    )
    ))
    ) fun F24 =>
    Option.bind (lp 6 (fun x => F24 x.1 x.2.1 x.2.2) (x2c, x0, x1)) fun w25 =>
    lti (w25.2.2 + (-1)) fun v41 =>
    lti (-w25.2.1) fun v42 =>
    gd 100 v42 fun i43 =>
    lti (tb_DigitOnes i43) fun v44 =>
    gd x2n v41 fun i45 =>
    lt (va_up w25.1 i45 ((v44 : Int32).toInt8.toInt32)) fun f46 =>
    lt (fun (f47 : Nat → Int32) (v48 : Int32) =>
    (if v1 = true then
      lti (v48 + (-1)) fun v51 =>
      gd x2n v51 fun i52 =>
      lt (va_up f47 i52 ((45 : Int32).toInt8.toInt32)) fun f53 =>
      some (v51, f53)
    else
      some (v48, f47)
    )
    ) fun K49 =>
    (if (-9) ≤ w25.2.1 then
      K49 f46 v41
    else
      lti (v41 + (-1)) fun v55 =>
      lti (-w25.2.1) fun v56 =>
      gd 100 v56 fun i57 =>
      lti (tb_DigitTens i57) fun v58 =>
      gd x2n v55 fun i59 =>
      lt (va_up f46 i59 ((v58 : Int32).toInt8.toInt32)) fun f60 =>
      K49 f60 v55
    )
  else
    lti (-x0) fun v61 =>
    lt (fun (f62 : Nat → Int32) (v63 : Int32) (v64 : Int32) =>
    (show Option (Sum ((Nat → Int32) × Int32 × Int32) ((Nat → Int32) × Int32 × Int32)) from (
    (if (-100) < v63 then
      some (.inr (f62, v63, v64))
    else
      lti (v63 / 100) fun v86 =>
      lti (v86 * 100) fun v87 =>
      lti (v87 - v63) fun v88 =>
      lti (v64 + (-1)) fun v89 =>
      gd 100 v88 fun i90 =>
      lti (tb_DigitOnes i90) fun v91 =>
      gd x2n v89 fun i92 =>
      lt (va_up f62 i92 ((v91 : Int32).toInt8.toInt32)) fun f93 =>
      lti (v89 + (-1)) fun v94 =>
      gd 100 v88 fun i95 =>
      lti (tb_DigitTens i95) fun v96 =>
      gd x2n v94 fun i97 =>
      lt (va_up f93 i97 ((v96 : Int32).toInt8.toInt32)) fun f98 =>
      some (.inl (f98, v86, v94))
    )
    ))
    ) fun F82 =>
    Option.bind (lp 6 (fun x => F82 x.1 x.2.1 x.2.2) (x2c, v61, x1)) fun w83 =>
    lti (w83.2.2 + (-1)) fun v99 =>
    lti (-w83.2.1) fun v100 =>
    gd 100 v100 fun i101 =>
    lti (tb_DigitOnes i101) fun v102 =>
    gd x2n v99 fun i103 =>
    lt (va_up w83.1 i103 ((v102 : Int32).toInt8.toInt32)) fun f104 =>
    lt (fun (f105 : Nat → Int32) (v106 : Int32) =>
    (if v1 = true then
      lti (v106 + (-1)) fun v109 =>
      gd x2n v109 fun i110 =>
      lt (va_up f105 i110 ((45 : Int32).toInt8.toInt32)) fun f111 =>
      some (v109, f111)
    else
      some (v106, f105)
    )
    ) fun K107 =>
    (if (-9) ≤ w83.2.1 then
      K107 f104 v99
    else
      lti (v99 + (-1)) fun v113 =>
      lti (-w83.2.1) fun v114 =>
      gd 100 v114 fun i115 =>
      lti (tb_DigitTens i115) fun v116 =>
      gd x2n v113 fun i117 =>
      lt (va_up f104 i117 ((v116 : Int32).toInt8.toInt32)) fun f118 =>
      K107 f118 v113
    )
  )
  ) fun K2 =>
  (if 0 ≤ x0 then
    K2 false
  else
    K2 true
  )
theorem hd_J26_getChars : Hd yJ26_getChars 3 := by unfold Hd; decide +kernel
set_option maxHeartbeats 4000000 in
set_option maxRecDepth 100000 in
theorem m_J26_getChars {l : Launch} {D : DD} (x2 : Nat)  (x0 : Int32) (x1 : Int32) (x2n : Nat) (x2c : Nat → Int32) (r : Int32 × (Nat → Int32)) (h : f_J26_getChars x0 x1 x2n x2c = some r) : MT l D yJ26_getChars cJ26_getChars 7 (some .int) 0 0 0 0 [.int x0, .int x1, .ref x2] (fun H => aB D x2 x2n x2c H ∧ x2n ≤ 1000000 ∧ dB D ≤ x2) (pI (fun H b H' => b = r.1 ∧ aB D x2 x2n r.2 H' ∧ Off (fun a => a = x2) H H')) := by
  refine MT.start (by decide +kernel) (Nat.le_of_ble_eq_true rfl) ?_
  intro p e s m below meth c ls hC hS hp hl
  obtain ⟨h_x2, l_x2, hB_h_x2⟩ := hp
  obtain ⟨hx, hb, hr, hlk, hml, hown, hts, hnm⟩ := id hC
  have hl : lv_has ls 7 [(0, .int x0), (1, .int x1), (2, .ref x2)] := hl
  unfold f_J26_getChars at h
  have hS0 := hS
  obtain ⟨A, eA⟩ : ∃ A : Array Value, A = [.int x0, .int x1, .ref x2].toArray := ⟨_, rfl⟩
  rw [← eA] at hC hts ⊢
  obtain ⟨Q, eQ⟩ : ∃ Q : State → Prop, Q = MQ below (TQ D (pI (fun H b H' => b = r.1 ∧ aB D x2 x2n r.2 H' ∧ Off (fun a => a = x2) H H'))) A s 0 0 (fun q => dB D ≤ q) := ⟨_, rfl⟩
  have hF : Off (fun a => a = x2) s.heap s.heap := Off.rf
  show W p l e R_J26_getChars s m A below meth c s.heap [] 0 0 _ _
  rw [← eQ]
  obtain ⟨H, eH⟩ : ∃ H : Heap, H = s.heap := ⟨_, rfl⟩
  obtain ⟨locs, eLc⟩ : ∃ L : List Loc, L = [] := ⟨_, rfl⟩
  have lt_h_x2 := h_x2.lt
  rw [← eH, ← eLc]
  have hF : Off (fun a => a = x2) s.heap H := by rw [eH]; exact hF
  rw [← eH] at h_x2
  have hS : St D s H locs := by rw [eH, eLc]; exact hS
  refine lv_iload_n hx hb dJ26_getChars_0 rfl (lv_at hl 1 rfl) ?_
  refine lv_istore (lv' := [(5, .int x1), (0, .int x0), (1, .int x1), (2, .ref x2)]) hx hb dJ26_getChars_1 hl (by decide) rfl (fun ls hl => ?_)
  refine lv_iload_n hx hb dJ26_getChars_3 rfl (lv_at hl 1 rfl) ?_
  obtain ⟨K2, eK2, h⟩ := lt_step h
  have HK2 : ∀ (v1 : Bool) (h : K2 v1 = some r) (H : Heap) (locs : List Loc) (hS : St D s H locs) (hF : Off (fun a => a = x2) s.heap H) (h_x2 : aB D x2 x2n x2c H) (ls : Array Slot) (hl : lv_has ls 7 [(0, .int x0), (2, .ref x2), (5, .int x1)]), W p l e R_J26_getChars s m A below meth c H locs 0 0 Q (F0 m 12 ls [.int (bI v1)]) := by
    intro v1 h H locs hS hF h_x2 ls hl
    subst eK2
    refine lv_istore (lv' := [(6, .int (bI v1)), (0, .int x0), (2, .ref x2), (5, .int x1)]) hx hb dJ26_getChars_12 hl (by decide) rfl (fun ls hl => ?_)
    refine lv_iload hx hb dJ26_getChars_14 (lv_at hl 0 rfl) ?_
    refine r_ifz_ne (tgt := 22) hx hb dJ26_getChars_16 (by decide) (fun c3 => ?_) (fun c3 => ?_)
    · have h := it_pos h (by rw [c3])
      obtain ⟨F24, eF24, h⟩ := lt_step h
      obtain ⟨w25, ew25, h⟩ := bind_step h
      have HL : ∀ (n : Nat) (f4 : Nat → Int32) (v5 : Int32) (v6 : Int32) (w25 : (Nat → Int32) × Int32 × Int32) (hk0 : lp n (fun x => F24 x.1 x.2.1 x.2.2) (f4, v5, v6) = some w25)  (H : Heap) (locs : List Loc) (hS : St D s H locs) (hF : Off (fun a => a = x2) s.heap H) (h_x2 : aB D x2 x2n f4 H) (ls : Array Slot) (hl : lv_has ls 7 [(0, .int v5), (2, .ref x2), (5, .int v6), (6, .int (bI v1))]) (K72 : ∀ (H : Heap) (locs : List Loc) (hS : St D s H locs) (hF : Off (fun a => a = x2) s.heap H) (h_x2 : aB D x2 x2n w25.1 H) (ls : Array Slot) (hl : lv_has ls 7 [(0, .int w25.2.1), (2, .ref x2), (5, .int w25.2.2), (6, .int (bI v1))]), W p l e R_J26_getChars s m A below meth c H locs 0 0 Q (F0 m 72 ls [])), W p l e R_J26_getChars s m A below meth c H locs 0 0 Q (F0 m 22 ls []) := by
        intro n
        induction n with
        | zero => intro f4 v5 v6 w25 hk0  H locs hS hF h_x2 ls hl K72; exact lp_zero hk0
        | succ n ih =>
          intro f4 v5 v6 w25 hk0  H locs hS hF h_x2 ls hl K72
          obtain ⟨z26, hz, hk⟩ := lp_step hk0
          have h := (congrFun (congrFun (congrFun (eF24) f4) v5) v6).symm.trans hz
          refine lv_iload_n hx hb dJ26_getChars_22 rfl (lv_at hl 0 rfl) ?_
          refine lv_bipush (v := (-100)) hx hb dJ26_getChars_23 (by decide) ?_
          refine lv_icmp_gt (tgt := 72) hx hb dJ26_getChars_25 (by decide) (fun c27 => ?_) (fun c27 => ?_)
          · have h := it_pos h c27
            obtain rfl := Option.some.inj h
            obtain rfl := id hk
            exact K72 H locs hS hF h_x2 ls (lv_sub hl [0, 1, 2, 3] rfl)
          · have h := it_neg h c27
            refine lv_iload_n hx hb dJ26_getChars_28 rfl (lv_at hl 0 rfl) ?_
            refine lv_bipush (v := 100) hx hb dJ26_getChars_29 (by decide) ?_
            obtain ⟨v28, ev28, h⟩ := lti_step h
            refine r_idiv hx hb ev28 (by decide) dJ26_getChars_31 ?_
            refine lv_istore_n (lv' := [(3, .int v28), (0, .int v5), (2, .ref x2), (5, .int v6), (6, .int (bI v1))]) hx hb dJ26_getChars_32 rfl hl (by decide) rfl (fun ls hl => ?_)
            refine lv_iload_n hx hb dJ26_getChars_33 rfl (lv_at hl 0 rfl) ?_
            refine lv_bipush (v := 100) hx hb dJ26_getChars_34 (by decide) ?_
            obtain ⟨v29, ev29, h⟩ := lti_step h
            refine r_imul hx hb ev29 dJ26_getChars_36 ?_
            refine lv_iload_n hx hb dJ26_getChars_37 rfl (lv_at hl 1 rfl) ?_
            obtain ⟨v30, ev30, h⟩ := lti_step h
            refine r_isub hx hb ev30 dJ26_getChars_38 ?_
            refine lv_istore (lv' := [(4, .int v30), (3, .int v28), (0, .int v5), (2, .ref x2), (5, .int v6), (6, .int (bI v1))]) hx hb dJ26_getChars_39 hl (by decide) rfl (fun ls hl => ?_)
            refine lv_iload_n hx hb dJ26_getChars_41 rfl (lv_at hl 1 rfl) ?_
            refine lv_istore_n (lv' := [(0, .int v28), (4, .int v30), (3, .int v28), (2, .ref x2), (5, .int v6), (6, .int (bI v1))]) hx hb dJ26_getChars_42 rfl hl (by decide) rfl (fun ls hl => ?_)
            refine lv_aload_n hx hb dJ26_getChars_43 rfl (lv_at hl 3 rfl) ?_
            obtain ⟨v31, ev31, h⟩ := lti_step h
            refine lv_iinc (v := v31) (lv' := [(5, .int v31), (0, .int v28), (4, .int v30), (3, .int v28), (2, .ref x2), (6, .int (bI v1))]) hx hb dJ26_getChars_44 hl (k := 4) rfl (by rw [ev31]; rfl) (by decide) rfl (fun ls hl => ?_)
            refine lv_iload hx hb dJ26_getChars_47 (lv_at hl 0 rfl) ?_
            refine r_gets hx hb hts hown hS 16 rfl q687 dJ26_getChars_49 ?_
            refine lv_iload hx hb dJ26_getChars_52 (lv_at hl 2 rfl) ?_
            obtain ⟨i32, xi32, h⟩ := gd_step (by decide) h
            refine r_bald hx hb hS (hS.1.RA hS.1.1.2.2.2.1.2.2.2.2.2.2.2.2.1) i32 xi32 dJ26_getChars_54 ?_
            obtain ⟨v33, ev33, h⟩ := lti_step h
            refine r_nmI ev33 ?_
            obtain ⟨i34, xi34, h⟩ := gd_step (nl0 l_x2) h
            obtain ⟨f35, ef35, h⟩ := lt_step h
            refine r_bast hx hb hS h_x2 hB_h_x2 i34 xi34 dJ26_getChars_55 (fun H locs hS hO h_x2 => ?_)
            have h_x2 : aB D x2 x2n f35 H := by rw [ef35]; exact h_x2
            have hF := hF.fresh hO (fun a ha z => z)
            refine lv_aload_n hx hb dJ26_getChars_56 rfl (lv_at hl 4 rfl) ?_
            obtain ⟨v36, ev36, h⟩ := lti_step h
            refine lv_iinc (v := v36) (lv' := [(5, .int v36), (0, .int v28), (4, .int v30), (3, .int v28), (2, .ref x2), (6, .int (bI v1))]) hx hb dJ26_getChars_57 hl (k := 0) rfl (by rw [ev36]; rfl) (by decide) rfl (fun ls hl => ?_)
            refine lv_iload hx hb dJ26_getChars_60 (lv_at hl 0 rfl) ?_
            refine r_gets hx hb hts hown hS 17 rfl q689 dJ26_getChars_62 ?_
            refine lv_iload hx hb dJ26_getChars_65 (lv_at hl 2 rfl) ?_
            obtain ⟨i37, xi37, h⟩ := gd_step (by decide) h
            refine r_bald hx hb hS (hS.1.RA hS.1.1.2.2.2.1.2.2.2.2.2.2.2.2.2.1) i37 xi37 dJ26_getChars_67 ?_
            obtain ⟨v38, ev38, h⟩ := lti_step h
            refine r_nmI ev38 ?_
            obtain ⟨i39, xi39, h⟩ := gd_step (nl0 l_x2) h
            obtain ⟨f40, ef40, h⟩ := lt_step h
            refine r_bast hx hb hS h_x2 hB_h_x2 i39 xi39 dJ26_getChars_68 (fun H locs hS hO h_x2 => ?_)
            have h_x2 : aB D x2 x2n f40 H := by rw [ef40]; exact h_x2
            have hF := hF.fresh hO (fun a ha z => z)
            refine lv_goto (tgt := 22) hx hb dJ26_getChars_69 (by decide) ?_
            obtain rfl := Option.some.inj h
            exact ih f40 v28 v36 w25 hk  H locs hS hF h_x2 ls (lv_sub hl [1, 4, 0, 5] rfl) K72
      clear eF24
      refine HL 6 x2c x0 x1 w25 ew25  H locs hS hF h_x2 ls (lv_sub hl [1, 2, 3, 0] rfl) (fun  H locs hS hF h_x2 ls hl => ?_)
      refine lv_aload_n hx hb dJ26_getChars_72 rfl (lv_at hl 1 rfl) ?_
      obtain ⟨v41, ev41, h⟩ := lti_step h
      refine lv_iinc (v := v41) (lv' := [(5, .int v41), (0, .int w25.2.1), (2, .ref x2), (6, .int (bI v1))]) hx hb dJ26_getChars_73 hl (k := 2) rfl (by rw [ev41]; rfl) (by decide) rfl (fun ls hl => ?_)
      refine lv_iload hx hb dJ26_getChars_76 (lv_at hl 0 rfl) ?_
      refine r_gets hx hb hts hown hS 16 rfl q687 dJ26_getChars_78 ?_
      refine lv_iload_n hx hb dJ26_getChars_81 rfl (lv_at hl 1 rfl) ?_
      obtain ⟨v42, ev42, h⟩ := lti_step h
      refine r_ineg hx hb ev42 dJ26_getChars_82 ?_
      obtain ⟨i43, xi43, h⟩ := gd_step (by decide) h
      refine r_bald hx hb hS (hS.1.RA hS.1.1.2.2.2.1.2.2.2.2.2.2.2.2.1) i43 xi43 dJ26_getChars_83 ?_
      obtain ⟨v44, ev44, h⟩ := lti_step h
      refine r_nmI ev44 ?_
      obtain ⟨i45, xi45, h⟩ := gd_step (nl0 l_x2) h
      obtain ⟨f46, ef46, h⟩ := lt_step h
      refine r_bast hx hb hS h_x2 hB_h_x2 i45 xi45 dJ26_getChars_84 (fun H locs hS hO h_x2 => ?_)
      have h_x2 : aB D x2 x2n f46 H := by rw [ef46]; exact h_x2
      have hF := hF.fresh hO (fun a ha z => z)
      refine lv_iload_n hx hb dJ26_getChars_85 rfl (lv_at hl 1 rfl) ?_
      refine lv_bipush (v := (-9)) hx hb dJ26_getChars_86 (by decide) ?_
      obtain ⟨K49, eK49, h⟩ := lt_step h
      have HK49 : ∀ (f47 : Nat → Int32) (v48 : Int32) (h : K49 f47 v48 = some r) (H : Heap) (locs : List Loc) (hS : St D s H locs) (hF : Off (fun a => a = x2) s.heap H) (h_x2 : aB D x2 x2n f47 H) (ls : Array Slot) (hl : lv_has ls 7 [(2, .ref x2), (5, .int v48), (6, .int (bI v1))]), W p l e R_J26_getChars s m A below meth c H locs 0 0 Q (F0 m 104 ls []) := by
        intro f47 v48 h H locs hS hF h_x2 ls hl
        subst eK49
        refine lv_iload hx hb dJ26_getChars_104 (lv_at hl 2 rfl) ?_
        refine r_ifz_eq (tgt := 118) hx hb dJ26_getChars_106 (by decide) (fun c50 => ?_) (fun c50 => ?_)
        · have h := it_neg h (by rw [c50]; decide)
          refine lv_iload hx hb dJ26_getChars_118 (lv_at hl 1 rfl) ?_
          obtain rfl := Option.some.inj h
          rw [eQ]
          exact r_iret hx hb hr hlk hS (Nat.le_of_ble_eq_true rfl) (Nat.le_of_ble_eq_true rfl) dJ26_getChars_120 ⟨_, rfl, rfl, h_x2, hF⟩
        · have h := it_pos h (by rw [c50])
          refine lv_aload_n hx hb dJ26_getChars_109 rfl (lv_at hl 0 rfl) ?_
          obtain ⟨v51, ev51, h⟩ := lti_step h
          refine lv_iinc (v := v51) (lv' := [(5, .int v51), (2, .ref x2), (6, .int (bI v1))]) hx hb dJ26_getChars_110 hl (k := 1) rfl (by rw [ev51]; rfl) (by decide) rfl (fun ls hl => ?_)
          refine lv_iload hx hb dJ26_getChars_113 (lv_at hl 0 rfl) ?_
          refine lv_bipush (v := 45) hx hb dJ26_getChars_115 (by decide) ?_
          obtain ⟨i52, xi52, h⟩ := gd_step (nl0 l_x2) h
          obtain ⟨f53, ef53, h⟩ := lt_step h
          refine r_bast hx hb hS h_x2 hB_h_x2 i52 xi52 dJ26_getChars_117 (fun H locs hS hO h_x2 => ?_)
          have h_x2 : aB D x2 x2n f53 H := by rw [ef53]; exact h_x2
          have hF := hF.fresh hO (fun a ha z => z)
          refine lv_iload hx hb dJ26_getChars_118 (lv_at hl 0 rfl) ?_
          obtain rfl := Option.some.inj h
          rw [eQ]
          exact r_iret hx hb hr hlk hS (Nat.le_of_ble_eq_true rfl) (Nat.le_of_ble_eq_true rfl) dJ26_getChars_120 ⟨_, rfl, rfl, h_x2, hF⟩
      clear eK49
      refine lv_icmp_ge (tgt := 104) hx hb dJ26_getChars_88 (by decide) (fun c54 => ?_) (fun c54 => ?_)
      · have h := it_pos h c54
        exact HK49 f46 v41 h H locs hS hF h_x2 ls (lv_sub hl [2, 0, 3] rfl)
      · have h := it_neg h c54
        refine lv_aload_n hx hb dJ26_getChars_91 rfl (lv_at hl 2 rfl) ?_
        obtain ⟨v55, ev55, h⟩ := lti_step h
        refine lv_iinc (v := v55) (lv' := [(5, .int v55), (0, .int w25.2.1), (2, .ref x2), (6, .int (bI v1))]) hx hb dJ26_getChars_92 hl (k := 0) rfl (by rw [ev55]; rfl) (by decide) rfl (fun ls hl => ?_)
        refine lv_iload hx hb dJ26_getChars_95 (lv_at hl 0 rfl) ?_
        refine r_gets hx hb hts hown hS 17 rfl q689 dJ26_getChars_97 ?_
        refine lv_iload_n hx hb dJ26_getChars_100 rfl (lv_at hl 1 rfl) ?_
        obtain ⟨v56, ev56, h⟩ := lti_step h
        refine r_ineg hx hb ev56 dJ26_getChars_101 ?_
        obtain ⟨i57, xi57, h⟩ := gd_step (by decide) h
        refine r_bald hx hb hS (hS.1.RA hS.1.1.2.2.2.1.2.2.2.2.2.2.2.2.2.1) i57 xi57 dJ26_getChars_102 ?_
        obtain ⟨v58, ev58, h⟩ := lti_step h
        refine r_nmI ev58 ?_
        obtain ⟨i59, xi59, h⟩ := gd_step (nl0 l_x2) h
        obtain ⟨f60, ef60, h⟩ := lt_step h
        refine r_bast hx hb hS h_x2 hB_h_x2 i59 xi59 dJ26_getChars_103 (fun H locs hS hO h_x2 => ?_)
        have h_x2 : aB D x2 x2n f60 H := by rw [ef60]; exact h_x2
        have hF := hF.fresh hO (fun a ha z => z)
        exact HK49 f60 v55 h H locs hS hF h_x2 ls (lv_sub hl [2, 0, 3] rfl)
    · have h := it_neg h (by rw [c3]; decide)
      refine lv_iload_n hx hb dJ26_getChars_19 rfl (lv_at hl 1 rfl) ?_
      obtain ⟨v61, ev61, h⟩ := lti_step h
      refine r_ineg hx hb ev61 dJ26_getChars_20 ?_
      refine lv_istore_n (lv' := [(0, .int v61), (6, .int (bI v1)), (2, .ref x2), (5, .int x1)]) hx hb dJ26_getChars_21 rfl hl (by decide) rfl (fun ls hl => ?_)
      obtain ⟨F82, eF82, h⟩ := lt_step h
      obtain ⟨w83, ew83, h⟩ := bind_step h
      have HL : ∀ (n : Nat) (f62 : Nat → Int32) (v63 : Int32) (v64 : Int32) (w83 : (Nat → Int32) × Int32 × Int32) (hk0 : lp n (fun x => F82 x.1 x.2.1 x.2.2) (f62, v63, v64) = some w83)  (H : Heap) (locs : List Loc) (hS : St D s H locs) (hF : Off (fun a => a = x2) s.heap H) (h_x2 : aB D x2 x2n f62 H) (ls : Array Slot) (hl : lv_has ls 7 [(0, .int v63), (2, .ref x2), (5, .int v64), (6, .int (bI v1))]) (K72 : ∀ (H : Heap) (locs : List Loc) (hS : St D s H locs) (hF : Off (fun a => a = x2) s.heap H) (h_x2 : aB D x2 x2n w83.1 H) (ls : Array Slot) (hl : lv_has ls 7 [(0, .int w83.2.1), (2, .ref x2), (5, .int w83.2.2), (6, .int (bI v1))]), W p l e R_J26_getChars s m A below meth c H locs 0 0 Q (F0 m 72 ls [])), W p l e R_J26_getChars s m A below meth c H locs 0 0 Q (F0 m 22 ls []) := by
        intro n
        induction n with
        | zero => intro f62 v63 v64 w83 hk0  H locs hS hF h_x2 ls hl K72; exact lp_zero hk0
        | succ n ih =>
          intro f62 v63 v64 w83 hk0  H locs hS hF h_x2 ls hl K72
          obtain ⟨z84, hz, hk⟩ := lp_step hk0
          have h := (congrFun (congrFun (congrFun (eF82) f62) v63) v64).symm.trans hz
          refine lv_iload_n hx hb dJ26_getChars_22 rfl (lv_at hl 0 rfl) ?_
          refine lv_bipush (v := (-100)) hx hb dJ26_getChars_23 (by decide) ?_
          refine lv_icmp_gt (tgt := 72) hx hb dJ26_getChars_25 (by decide) (fun c85 => ?_) (fun c85 => ?_)
          · have h := it_pos h c85
            obtain rfl := Option.some.inj h
            obtain rfl := id hk
            exact K72 H locs hS hF h_x2 ls (lv_sub hl [0, 1, 2, 3] rfl)
          · have h := it_neg h c85
            refine lv_iload_n hx hb dJ26_getChars_28 rfl (lv_at hl 0 rfl) ?_
            refine lv_bipush (v := 100) hx hb dJ26_getChars_29 (by decide) ?_
            obtain ⟨v86, ev86, h⟩ := lti_step h
            refine r_idiv hx hb ev86 (by decide) dJ26_getChars_31 ?_
            refine lv_istore_n (lv' := [(3, .int v86), (0, .int v63), (2, .ref x2), (5, .int v64), (6, .int (bI v1))]) hx hb dJ26_getChars_32 rfl hl (by decide) rfl (fun ls hl => ?_)
            refine lv_iload_n hx hb dJ26_getChars_33 rfl (lv_at hl 0 rfl) ?_
            refine lv_bipush (v := 100) hx hb dJ26_getChars_34 (by decide) ?_
            obtain ⟨v87, ev87, h⟩ := lti_step h
            refine r_imul hx hb ev87 dJ26_getChars_36 ?_
            refine lv_iload_n hx hb dJ26_getChars_37 rfl (lv_at hl 1 rfl) ?_
            obtain ⟨v88, ev88, h⟩ := lti_step h
            refine r_isub hx hb ev88 dJ26_getChars_38 ?_
            refine lv_istore (lv' := [(4, .int v88), (3, .int v86), (0, .int v63), (2, .ref x2), (5, .int v64), (6, .int (bI v1))]) hx hb dJ26_getChars_39 hl (by decide) rfl (fun ls hl => ?_)
            refine lv_iload_n hx hb dJ26_getChars_41 rfl (lv_at hl 1 rfl) ?_
            refine lv_istore_n (lv' := [(0, .int v86), (4, .int v88), (3, .int v86), (2, .ref x2), (5, .int v64), (6, .int (bI v1))]) hx hb dJ26_getChars_42 rfl hl (by decide) rfl (fun ls hl => ?_)
            refine lv_aload_n hx hb dJ26_getChars_43 rfl (lv_at hl 3 rfl) ?_
            obtain ⟨v89, ev89, h⟩ := lti_step h
            refine lv_iinc (v := v89) (lv' := [(5, .int v89), (0, .int v86), (4, .int v88), (3, .int v86), (2, .ref x2), (6, .int (bI v1))]) hx hb dJ26_getChars_44 hl (k := 4) rfl (by rw [ev89]; rfl) (by decide) rfl (fun ls hl => ?_)
            refine lv_iload hx hb dJ26_getChars_47 (lv_at hl 0 rfl) ?_
            refine r_gets hx hb hts hown hS 16 rfl q687 dJ26_getChars_49 ?_
            refine lv_iload hx hb dJ26_getChars_52 (lv_at hl 2 rfl) ?_
            obtain ⟨i90, xi90, h⟩ := gd_step (by decide) h
            refine r_bald hx hb hS (hS.1.RA hS.1.1.2.2.2.1.2.2.2.2.2.2.2.2.1) i90 xi90 dJ26_getChars_54 ?_
            obtain ⟨v91, ev91, h⟩ := lti_step h
            refine r_nmI ev91 ?_
            obtain ⟨i92, xi92, h⟩ := gd_step (nl0 l_x2) h
            obtain ⟨f93, ef93, h⟩ := lt_step h
            refine r_bast hx hb hS h_x2 hB_h_x2 i92 xi92 dJ26_getChars_55 (fun H locs hS hO h_x2 => ?_)
            have h_x2 : aB D x2 x2n f93 H := by rw [ef93]; exact h_x2
            have hF := hF.fresh hO (fun a ha z => z)
            refine lv_aload_n hx hb dJ26_getChars_56 rfl (lv_at hl 4 rfl) ?_
            obtain ⟨v94, ev94, h⟩ := lti_step h
            refine lv_iinc (v := v94) (lv' := [(5, .int v94), (0, .int v86), (4, .int v88), (3, .int v86), (2, .ref x2), (6, .int (bI v1))]) hx hb dJ26_getChars_57 hl (k := 0) rfl (by rw [ev94]; rfl) (by decide) rfl (fun ls hl => ?_)
            refine lv_iload hx hb dJ26_getChars_60 (lv_at hl 0 rfl) ?_
            refine r_gets hx hb hts hown hS 17 rfl q689 dJ26_getChars_62 ?_
            refine lv_iload hx hb dJ26_getChars_65 (lv_at hl 2 rfl) ?_
            obtain ⟨i95, xi95, h⟩ := gd_step (by decide) h
            refine r_bald hx hb hS (hS.1.RA hS.1.1.2.2.2.1.2.2.2.2.2.2.2.2.2.1) i95 xi95 dJ26_getChars_67 ?_
            obtain ⟨v96, ev96, h⟩ := lti_step h
            refine r_nmI ev96 ?_
            obtain ⟨i97, xi97, h⟩ := gd_step (nl0 l_x2) h
            obtain ⟨f98, ef98, h⟩ := lt_step h
            refine r_bast hx hb hS h_x2 hB_h_x2 i97 xi97 dJ26_getChars_68 (fun H locs hS hO h_x2 => ?_)
            have h_x2 : aB D x2 x2n f98 H := by rw [ef98]; exact h_x2
            have hF := hF.fresh hO (fun a ha z => z)
            refine lv_goto (tgt := 22) hx hb dJ26_getChars_69 (by decide) ?_
            obtain rfl := Option.some.inj h
            exact ih f98 v86 v94 w83 hk  H locs hS hF h_x2 ls (lv_sub hl [1, 4, 0, 5] rfl) K72
      clear eF82
      refine HL 6 x2c v61 x1 w83 ew83  H locs hS hF h_x2 ls (lv_sub hl [0, 2, 3, 1] rfl) (fun  H locs hS hF h_x2 ls hl => ?_)
      refine lv_aload_n hx hb dJ26_getChars_72 rfl (lv_at hl 1 rfl) ?_
      obtain ⟨v99, ev99, h⟩ := lti_step h
      refine lv_iinc (v := v99) (lv' := [(5, .int v99), (0, .int w83.2.1), (2, .ref x2), (6, .int (bI v1))]) hx hb dJ26_getChars_73 hl (k := 2) rfl (by rw [ev99]; rfl) (by decide) rfl (fun ls hl => ?_)
      refine lv_iload hx hb dJ26_getChars_76 (lv_at hl 0 rfl) ?_
      refine r_gets hx hb hts hown hS 16 rfl q687 dJ26_getChars_78 ?_
      refine lv_iload_n hx hb dJ26_getChars_81 rfl (lv_at hl 1 rfl) ?_
      obtain ⟨v100, ev100, h⟩ := lti_step h
      refine r_ineg hx hb ev100 dJ26_getChars_82 ?_
      obtain ⟨i101, xi101, h⟩ := gd_step (by decide) h
      refine r_bald hx hb hS (hS.1.RA hS.1.1.2.2.2.1.2.2.2.2.2.2.2.2.1) i101 xi101 dJ26_getChars_83 ?_
      obtain ⟨v102, ev102, h⟩ := lti_step h
      refine r_nmI ev102 ?_
      obtain ⟨i103, xi103, h⟩ := gd_step (nl0 l_x2) h
      obtain ⟨f104, ef104, h⟩ := lt_step h
      refine r_bast hx hb hS h_x2 hB_h_x2 i103 xi103 dJ26_getChars_84 (fun H locs hS hO h_x2 => ?_)
      have h_x2 : aB D x2 x2n f104 H := by rw [ef104]; exact h_x2
      have hF := hF.fresh hO (fun a ha z => z)
      refine lv_iload_n hx hb dJ26_getChars_85 rfl (lv_at hl 1 rfl) ?_
      refine lv_bipush (v := (-9)) hx hb dJ26_getChars_86 (by decide) ?_
      obtain ⟨K107, eK107, h⟩ := lt_step h
      have HK107 : ∀ (f105 : Nat → Int32) (v106 : Int32) (h : K107 f105 v106 = some r) (H : Heap) (locs : List Loc) (hS : St D s H locs) (hF : Off (fun a => a = x2) s.heap H) (h_x2 : aB D x2 x2n f105 H) (ls : Array Slot) (hl : lv_has ls 7 [(2, .ref x2), (5, .int v106), (6, .int (bI v1))]), W p l e R_J26_getChars s m A below meth c H locs 0 0 Q (F0 m 104 ls []) := by
        intro f105 v106 h H locs hS hF h_x2 ls hl
        subst eK107
        refine lv_iload hx hb dJ26_getChars_104 (lv_at hl 2 rfl) ?_
        refine r_ifz_eq (tgt := 118) hx hb dJ26_getChars_106 (by decide) (fun c108 => ?_) (fun c108 => ?_)
        · have h := it_neg h (by rw [c108]; decide)
          refine lv_iload hx hb dJ26_getChars_118 (lv_at hl 1 rfl) ?_
          obtain rfl := Option.some.inj h
          rw [eQ]
          exact r_iret hx hb hr hlk hS (Nat.le_of_ble_eq_true rfl) (Nat.le_of_ble_eq_true rfl) dJ26_getChars_120 ⟨_, rfl, rfl, h_x2, hF⟩
        · have h := it_pos h (by rw [c108])
          refine lv_aload_n hx hb dJ26_getChars_109 rfl (lv_at hl 0 rfl) ?_
          obtain ⟨v109, ev109, h⟩ := lti_step h
          refine lv_iinc (v := v109) (lv' := [(5, .int v109), (2, .ref x2), (6, .int (bI v1))]) hx hb dJ26_getChars_110 hl (k := 1) rfl (by rw [ev109]; rfl) (by decide) rfl (fun ls hl => ?_)
          refine lv_iload hx hb dJ26_getChars_113 (lv_at hl 0 rfl) ?_
          refine lv_bipush (v := 45) hx hb dJ26_getChars_115 (by decide) ?_
          obtain ⟨i110, xi110, h⟩ := gd_step (nl0 l_x2) h
          obtain ⟨f111, ef111, h⟩ := lt_step h
          refine r_bast hx hb hS h_x2 hB_h_x2 i110 xi110 dJ26_getChars_117 (fun H locs hS hO h_x2 => ?_)
          have h_x2 : aB D x2 x2n f111 H := by rw [ef111]; exact h_x2
          have hF := hF.fresh hO (fun a ha z => z)
          refine lv_iload hx hb dJ26_getChars_118 (lv_at hl 0 rfl) ?_
          obtain rfl := Option.some.inj h
          rw [eQ]
          exact r_iret hx hb hr hlk hS (Nat.le_of_ble_eq_true rfl) (Nat.le_of_ble_eq_true rfl) dJ26_getChars_120 ⟨_, rfl, rfl, h_x2, hF⟩
      clear eK107
      refine lv_icmp_ge (tgt := 104) hx hb dJ26_getChars_88 (by decide) (fun c112 => ?_) (fun c112 => ?_)
      · have h := it_pos h c112
        exact HK107 f104 v99 h H locs hS hF h_x2 ls (lv_sub hl [2, 0, 3] rfl)
      · have h := it_neg h c112
        refine lv_aload_n hx hb dJ26_getChars_91 rfl (lv_at hl 2 rfl) ?_
        obtain ⟨v113, ev113, h⟩ := lti_step h
        refine lv_iinc (v := v113) (lv' := [(5, .int v113), (0, .int w83.2.1), (2, .ref x2), (6, .int (bI v1))]) hx hb dJ26_getChars_92 hl (k := 0) rfl (by rw [ev113]; rfl) (by decide) rfl (fun ls hl => ?_)
        refine lv_iload hx hb dJ26_getChars_95 (lv_at hl 0 rfl) ?_
        refine r_gets hx hb hts hown hS 17 rfl q689 dJ26_getChars_97 ?_
        refine lv_iload_n hx hb dJ26_getChars_100 rfl (lv_at hl 1 rfl) ?_
        obtain ⟨v114, ev114, h⟩ := lti_step h
        refine r_ineg hx hb ev114 dJ26_getChars_101 ?_
        obtain ⟨i115, xi115, h⟩ := gd_step (by decide) h
        refine r_bald hx hb hS (hS.1.RA hS.1.1.2.2.2.1.2.2.2.2.2.2.2.2.2.1) i115 xi115 dJ26_getChars_102 ?_
        obtain ⟨v116, ev116, h⟩ := lti_step h
        refine r_nmI ev116 ?_
        obtain ⟨i117, xi117, h⟩ := gd_step (nl0 l_x2) h
        obtain ⟨f118, ef118, h⟩ := lt_step h
        refine r_bast hx hb hS h_x2 hB_h_x2 i117 xi117 dJ26_getChars_103 (fun H locs hS hO h_x2 => ?_)
        have h_x2 : aB D x2 x2n f118 H := by rw [ef118]; exact h_x2
        have hF := hF.fresh hO (fun a ha z => z)
        exact HK107 f118 v113 h H locs hS hF h_x2 ls (lv_sub hl [2, 0, 3] rfl)
  clear eK2
  refine lv_if_ge (tgt := 11) hx hb dJ26_getChars_4 (by decide) (fun c119 => ?_) (fun c119 => ?_)
  · have h := it_pos h c119
    refine lv_iconst (v := 0) hx hb dJ26_getChars_11 (by decide) ?_
    exact HK2 false h H locs hS hF h_x2 ls (lv_sub hl [1, 3, 0] rfl)
  · have h := it_neg h c119
    refine lv_iconst (v := 1) hx hb dJ26_getChars_7 (by decide) ?_
    refine lv_goto (tgt := 12) hx hb dJ26_getChars_8 (by decide) ?_
    exact HK2 true h H locs hS hF h_x2 ls (lv_sub hl [1, 3, 0] rfl)

abbrev R_J27_getChars : Room := { frames := 0, cells := 0, slots := 0, locals := 0 }
noncomputable def f_J27_getChars (x0 : Int64) (x1 : Int32) (x2n : Nat) (x2c : Nat → Int32) : Option (Int32 × (Nat → Int32)) :=
  lti (lg_cmp x0 0) fun v1 =>
  lt (fun (v2 : Bool) =>
  (if v2 = true then
    lt (fun (f5 : Nat → Int32) (v6 : Int64) (v7 : Int32) =>
    (show Option (Sum ((Nat → Int32) × Int64 × Int32) ((Nat → Int32) × Int64 × Int32)) from (
    lti (lg_cmp v6 (-2147483648)) fun v30 =>
    (if 0 < v30 then
      some (.inr (f5, v6, v7))
    else
      ltl (v6 / 100) fun v32 =>
      ltl ((v32 * 100 : Int64)) fun v33 =>
      ltl ((v33 - v6 : Int64)) fun v34 =>
      lti (v34.toInt32) fun v35 =>
      lti (v7 + (-1)) fun v36 =>
      gd 100 v35 fun i37 =>
      lti (tb_DigitOnes i37) fun v38 =>
      gd x2n v36 fun i39 =>
      lt (va_up f5 i39 ((v38 : Int32).toInt8.toInt32)) fun f40 =>
      lti (v36 + (-1)) fun v41 =>
      gd 100 v35 fun i42 =>
      lti (tb_DigitTens i42) fun v43 =>
      gd x2n v41 fun i44 =>
      lt (va_up f40 i44 ((v43 : Int32).toInt8.toInt32)) fun f45 =>
      some (.inl (f45, v32, v41))
    )
    ))
    ) fun F27 =>
    Option.bind (lp 11 (fun x => F27 x.1 x.2.1 x.2.2) (x2c, x0, x1)) fun w28 =>
    lti (w28.2.1.toInt32) fun v46 =>
    lt (fun (f47 : Nat → Int32) (v48 : Int32) (v49 : Int32) =>
    (show Option (Sum ((Nat → Int32) × Int32 × Int32) ((Nat → Int32) × Int32 × Int32)) from (
    (if (-100) < v49 then
      some (.inr (f47, v48, v49))
    else
      lti (v49 / 100) fun v71 =>
      lti (v71 * 100) fun v72 =>
      lti (v72 - v49) fun v73 =>
      lti (v48 + (-1)) fun v74 =>
      gd 100 v73 fun i75 =>
      lti (tb_DigitOnes i75) fun v76 =>
      gd x2n v74 fun i77 =>
      lt (va_up f47 i77 ((v76 : Int32).toInt8.toInt32)) fun f78 =>
      lti (v74 + (-1)) fun v79 =>
      gd 100 v73 fun i80 =>
      lti (tb_DigitTens i80) fun v81 =>
      gd x2n v79 fun i82 =>
      lt (va_up f78 i82 ((v81 : Int32).toInt8.toInt32)) fun f83 =>
      some (.inl (f83, v79, v71))
    )
    ))
    ) fun F67 =>
    Option.bind (lp 6 (fun x => F67 x.1 x.2.1 x.2.2) (w28.1, w28.2.2, v46)) fun w68 =>
    lti (w68.2.1 + (-1)) fun v84 =>
    lti (-w68.2.2) fun v85 =>
    gd 100 v85 fun i86 =>
    lti (tb_DigitOnes i86) fun v87 =>
    gd x2n v84 fun i88 =>
    lt (va_up w68.1 i88 ((v87 : Int32).toInt8.toInt32)) fun f89 =>
    lt (fun (f90 : Nat → Int32) (v91 : Int32) =>
    (if v2 = true then
      lti (v91 + (-1)) fun v94 =>
      gd x2n v94 fun i95 =>
      lt (va_up f90 i95 ((45 : Int32).toInt8.toInt32)) fun f96 =>
      some (v94, f96)
    else
      some (v91, f90)
    )
    ) fun K92 =>
    (if (-9) ≤ w68.2.2 then
      K92 f89 v84
    else
      lti (v84 + (-1)) fun v98 =>
      lti (-w68.2.2) fun v99 =>
      gd 100 v99 fun i100 =>
      lti (tb_DigitTens i100) fun v101 =>
      gd x2n v98 fun i102 =>
      lt (va_up f89 i102 ((v101 : Int32).toInt8.toInt32)) fun f103 =>
      K92 f103 v98
    )
  else
    ltl (-x0) fun v104 =>
    lt (fun (f105 : Nat → Int32) (v106 : Int64) (v107 : Int32) =>
    (show Option (Sum ((Nat → Int32) × Int64 × Int32) ((Nat → Int32) × Int64 × Int32)) from (
    lti (lg_cmp v106 (-2147483648)) fun v130 =>
    (if 0 < v130 then
      some (.inr (f105, v106, v107))
    else
      ltl (v106 / 100) fun v132 =>
      ltl ((v132 * 100 : Int64)) fun v133 =>
      ltl ((v133 - v106 : Int64)) fun v134 =>
      lti (v134.toInt32) fun v135 =>
      lti (v107 + (-1)) fun v136 =>
      gd 100 v135 fun i137 =>
      lti (tb_DigitOnes i137) fun v138 =>
      gd x2n v136 fun i139 =>
      lt (va_up f105 i139 ((v138 : Int32).toInt8.toInt32)) fun f140 =>
      lti (v136 + (-1)) fun v141 =>
      gd 100 v135 fun i142 =>
      lti (tb_DigitTens i142) fun v143 =>
      gd x2n v141 fun i144 =>
      lt (va_up f140 i144 ((v143 : Int32).toInt8.toInt32)) fun f145 =>
      some (.inl (f145, v132, v141))
    )
    ))
    ) fun F127 =>
    Option.bind (lp 11 (fun x => F127 x.1 x.2.1 x.2.2) (x2c, v104, x1)) fun w128 =>
    lti (w128.2.1.toInt32) fun v146 =>
    lt (fun (f147 : Nat → Int32) (v148 : Int32) (v149 : Int32) =>
    (show Option (Sum ((Nat → Int32) × Int32 × Int32) ((Nat → Int32) × Int32 × Int32)) from (
    (if (-100) < v149 then
      some (.inr (f147, v148, v149))
    else
      lti (v149 / 100) fun v171 =>
      lti (v171 * 100) fun v172 =>
      lti (v172 - v149) fun v173 =>
      lti (v148 + (-1)) fun v174 =>
      gd 100 v173 fun i175 =>
      lti (tb_DigitOnes i175) fun v176 =>
      gd x2n v174 fun i177 =>
      lt (va_up f147 i177 ((v176 : Int32).toInt8.toInt32)) fun f178 =>
      lti (v174 + (-1)) fun v179 =>
      gd 100 v173 fun i180 =>
      lti (tb_DigitTens i180) fun v181 =>
      gd x2n v179 fun i182 =>
      lt (va_up f178 i182 ((v181 : Int32).toInt8.toInt32)) fun f183 =>
      some (.inl (f183, v179, v171))
    )
    ))
    ) fun F167 =>
    Option.bind (lp 6 (fun x => F167 x.1 x.2.1 x.2.2) (w128.1, w128.2.2, v146)) fun w168 =>
    lti (w168.2.1 + (-1)) fun v184 =>
    lti (-w168.2.2) fun v185 =>
    gd 100 v185 fun i186 =>
    lti (tb_DigitOnes i186) fun v187 =>
    gd x2n v184 fun i188 =>
    lt (va_up w168.1 i188 ((v187 : Int32).toInt8.toInt32)) fun f189 =>
    lt (fun (f190 : Nat → Int32) (v191 : Int32) =>
    (if v2 = true then
      lti (v191 + (-1)) fun v194 =>
      gd x2n v194 fun i195 =>
      lt (va_up f190 i195 ((45 : Int32).toInt8.toInt32)) fun f196 =>
      some (v194, f196)
    else
      some (v191, f190)
    )
    ) fun K192 =>
    (if (-9) ≤ w168.2.2 then
      K192 f189 v184
    else
      lti (v184 + (-1)) fun v198 =>
      lti (-w168.2.2) fun v199 =>
      gd 100 v199 fun i200 =>
      lti (tb_DigitTens i200) fun v201 =>
      gd x2n v198 fun i202 =>
      lt (va_up f189 i202 ((v201 : Int32).toInt8.toInt32)) fun f203 =>
      K192 f203 v198
    )
  )
  ) fun K3 =>
  (if 0 ≤ v1 then
    K3 false
  else
    K3 true
  )
theorem hd_J27_getChars : Hd yJ27_getChars 3 := by unfold Hd; decide +kernel
set_option maxHeartbeats 4000000 in
set_option maxRecDepth 100000 in
theorem m_J27_getChars {l : Launch} {D : DD} (x2 : Nat)  (x0 : Int64) (x1 : Int32) (x2n : Nat) (x2c : Nat → Int32) (r : Int32 × (Nat → Int32)) (h : f_J27_getChars x0 x1 x2n x2c = some r) : MT l D yJ27_getChars cJ27_getChars 11 (some .int) 0 0 0 0 [.long x0, .int x1, .ref x2] (fun H => aB D x2 x2n x2c H ∧ x2n ≤ 1000000 ∧ dB D ≤ x2) (pI (fun H b H' => b = r.1 ∧ aB D x2 x2n r.2 H' ∧ Off (fun a => a = x2) H H')) := by
  refine MT.start (by decide +kernel) (Nat.le_of_ble_eq_true rfl) ?_
  intro p e s m below meth c ls hC hS hp hl
  obtain ⟨h_x2, l_x2, hB_h_x2⟩ := hp
  obtain ⟨hx, hb, hr, hlk, hml, hown, hts, hnm⟩ := id hC
  have hl : lv_has ls 11 [(0, .long x0), (2, .int x1), (3, .ref x2)] := hl
  unfold f_J27_getChars at h
  have hS0 := hS
  obtain ⟨A, eA⟩ : ∃ A : Array Value, A = [.long x0, .int x1, .ref x2].toArray := ⟨_, rfl⟩
  rw [← eA] at hC hts ⊢
  obtain ⟨Q, eQ⟩ : ∃ Q : State → Prop, Q = MQ below (TQ D (pI (fun H b H' => b = r.1 ∧ aB D x2 x2n r.2 H' ∧ Off (fun a => a = x2) H H'))) A s 0 0 (fun q => dB D ≤ q) := ⟨_, rfl⟩
  have hF : Off (fun a => a = x2) s.heap s.heap := Off.rf
  show W p l e R_J27_getChars s m A below meth c s.heap [] 0 0 _ _
  rw [← eQ]
  obtain ⟨H, eH⟩ : ∃ H : Heap, H = s.heap := ⟨_, rfl⟩
  obtain ⟨locs, eLc⟩ : ∃ L : List Loc, L = [] := ⟨_, rfl⟩
  have lt_h_x2 := h_x2.lt
  rw [← eH, ← eLc]
  have hF : Off (fun a => a = x2) s.heap H := by rw [eH]; exact hF
  rw [← eH] at h_x2
  have hS : St D s H locs := by rw [eH, eLc]; exact hS
  refine lv_iload_n hx hb dJ27_getChars_0 rfl (lv_at hl 1 rfl) ?_
  refine lv_istore (lv' := [(7, .int x1), (0, .long x0), (2, .int x1), (3, .ref x2)]) hx hb dJ27_getChars_1 hl (by decide) rfl (fun ls hl => ?_)
  refine lv_lload_n hx hb dJ27_getChars_3 rfl (lv_at hl 1 rfl) ?_
  refine lv_lconst (v := 0) hx hb dJ27_getChars_4 rfl ?_
  obtain ⟨v1, ev1, h⟩ := lti_step h
  refine r_lcmp hx hb ev1 dJ27_getChars_5 ?_
  obtain ⟨K3, eK3, h⟩ := lt_step h
  have HK3 : ∀ (v2 : Bool) (h : K3 v2 = some r) (H : Heap) (locs : List Loc) (hS : St D s H locs) (hF : Off (fun a => a = x2) s.heap H) (h_x2 : aB D x2 x2n x2c H) (ls : Array Slot) (hl : lv_has ls 11 [(0, .long x0), (3, .ref x2), (7, .int x1)]), W p l e R_J27_getChars s m A below meth c H locs 0 0 Q (F0 m 14 ls [.int (bI v2)]) := by
    intro v2 h H locs hS hF h_x2 ls hl
    subst eK3
    refine lv_istore (lv' := [(8, .int (bI v2)), (0, .long x0), (3, .ref x2), (7, .int x1)]) hx hb dJ27_getChars_14 hl (by decide) rfl (fun ls hl => ?_)
    refine lv_iload hx hb dJ27_getChars_16 (lv_at hl 0 rfl) ?_
    refine r_ifz_ne (tgt := 24) hx hb dJ27_getChars_18 (by decide) (fun c4 => ?_) (fun c4 => ?_)
    · have h := it_pos h (by rw [c4])
      obtain ⟨F27, eF27, h⟩ := lt_step h
      obtain ⟨w28, ew28, h⟩ := bind_step h
      have HL : ∀ (n : Nat) (f5 : Nat → Int32) (v6 : Int64) (v7 : Int32) (w28 : (Nat → Int32) × Int64 × Int32) (hk0 : lp n (fun x => F27 x.1 x.2.1 x.2.2) (f5, v6, v7) = some w28)  (H : Heap) (locs : List Loc) (hS : St D s H locs) (hF : Off (fun a => a = x2) s.heap H) (h_x2 : aB D x2 x2n f5 H) (ls : Array Slot) (hl : lv_has ls 11 [(0, .long v6), (3, .ref x2), (7, .int v7), (8, .int (bI v2))]) (K82 : ∀ (H : Heap) (locs : List Loc) (hS : St D s H locs) (hF : Off (fun a => a = x2) s.heap H) (h_x2 : aB D x2 x2n w28.1 H) (ls : Array Slot) (hl : lv_has ls 11 [(0, .long w28.2.1), (3, .ref x2), (7, .int w28.2.2), (8, .int (bI v2))]), W p l e R_J27_getChars s m A below meth c H locs 0 0 Q (F0 m 82 ls [])), W p l e R_J27_getChars s m A below meth c H locs 0 0 Q (F0 m 24 ls []) := by
        intro n
        induction n with
        | zero => intro f5 v6 v7 w28 hk0  H locs hS hF h_x2 ls hl K82; exact lp_zero hk0
        | succ n ih =>
          intro f5 v6 v7 w28 hk0  H locs hS hF h_x2 ls hl K82
          obtain ⟨z29, hz, hk⟩ := lp_step hk0
          have h := (congrFun (congrFun (congrFun (eF27) f5) v6) v7).symm.trans hz
          refine lv_lload_n hx hb dJ27_getChars_24 rfl (lv_at hl 0 rfl) ?_
          refine lv_ldc2 hx hb (v := (-2147483648)) hown (hts _ q1020) dJ27_getChars_25 ?_
          obtain ⟨v30, ev30, h⟩ := lti_step h
          refine r_lcmp hx hb ev30 dJ27_getChars_28 ?_
          refine lv_if_gt (tgt := 82) hx hb dJ27_getChars_29 (by decide) (fun c31 => ?_) (fun c31 => ?_)
          · have h := it_pos h c31
            obtain rfl := Option.some.inj h
            obtain rfl := id hk
            exact K82 H locs hS hF h_x2 ls (lv_sub hl [0, 1, 2, 3] rfl)
          · have h := it_neg h c31
            refine lv_lload_n hx hb dJ27_getChars_32 rfl (lv_at hl 0 rfl) ?_
            refine lv_ldc2 hx hb (v := 100) hown (hts _ q1021) dJ27_getChars_33 ?_
            obtain ⟨v32, ev32, h⟩ := ltl_step h
            refine r_ldiv hx hb ev32 (by decide) dJ27_getChars_36 ?_
            refine lv_lstore (lv' := [(4, .long v32), (0, .long v6), (3, .ref x2), (7, .int v7), (8, .int (bI v2))]) hx hb dJ27_getChars_37 hl (by decide) rfl (fun ls hl => ?_)
            refine lv_lload hx hb dJ27_getChars_39 (lv_at hl 0 rfl) ?_
            refine lv_ldc2 hx hb (v := 100) hown (hts _ q1021) dJ27_getChars_41 ?_
            obtain ⟨v33, ev33, h⟩ := ltl_step h
            refine r_lmul hx hb ev33 dJ27_getChars_44 ?_
            refine lv_lload_n hx hb dJ27_getChars_45 rfl (lv_at hl 1 rfl) ?_
            obtain ⟨v34, ev34, h⟩ := ltl_step h
            refine r_lsub hx hb ev34 dJ27_getChars_46 ?_
            obtain ⟨v35, ev35, h⟩ := lti_step h
            refine r_l2i hx hb ev35 dJ27_getChars_47 ?_
            refine lv_istore (lv' := [(6, .int v35), (4, .long v32), (0, .long v6), (3, .ref x2), (7, .int v7), (8, .int (bI v2))]) hx hb dJ27_getChars_48 hl (by decide) rfl (fun ls hl => ?_)
            refine lv_lload hx hb dJ27_getChars_50 (lv_at hl 1 rfl) ?_
            refine lv_lstore_n (lv' := [(0, .long v32), (6, .int v35), (4, .long v32), (3, .ref x2), (7, .int v7), (8, .int (bI v2))]) hx hb dJ27_getChars_52 rfl hl (by decide) rfl (fun ls hl => ?_)
            refine lv_aload_n hx hb dJ27_getChars_53 rfl (lv_at hl 3 rfl) ?_
            obtain ⟨v36, ev36, h⟩ := lti_step h
            refine lv_iinc (v := v36) (lv' := [(7, .int v36), (0, .long v32), (6, .int v35), (4, .long v32), (3, .ref x2), (8, .int (bI v2))]) hx hb dJ27_getChars_54 hl (k := 4) rfl (by rw [ev36]; rfl) (by decide) rfl (fun ls hl => ?_)
            refine lv_iload hx hb dJ27_getChars_57 (lv_at hl 0 rfl) ?_
            refine r_gets hx hb hts hown hS 16 rfl q1022 dJ27_getChars_59 ?_
            refine lv_iload hx hb dJ27_getChars_62 (lv_at hl 2 rfl) ?_
            obtain ⟨i37, xi37, h⟩ := gd_step (by decide) h
            refine r_bald hx hb hS (hS.1.RA hS.1.1.2.2.2.1.2.2.2.2.2.2.2.2.1) i37 xi37 dJ27_getChars_64 ?_
            obtain ⟨v38, ev38, h⟩ := lti_step h
            refine r_nmI ev38 ?_
            obtain ⟨i39, xi39, h⟩ := gd_step (nl0 l_x2) h
            obtain ⟨f40, ef40, h⟩ := lt_step h
            refine r_bast hx hb hS h_x2 hB_h_x2 i39 xi39 dJ27_getChars_65 (fun H locs hS hO h_x2 => ?_)
            have h_x2 : aB D x2 x2n f40 H := by rw [ef40]; exact h_x2
            have hF := hF.fresh hO (fun a ha z => z)
            refine lv_aload_n hx hb dJ27_getChars_66 rfl (lv_at hl 4 rfl) ?_
            obtain ⟨v41, ev41, h⟩ := lti_step h
            refine lv_iinc (v := v41) (lv' := [(7, .int v41), (0, .long v32), (6, .int v35), (4, .long v32), (3, .ref x2), (8, .int (bI v2))]) hx hb dJ27_getChars_67 hl (k := 0) rfl (by rw [ev41]; rfl) (by decide) rfl (fun ls hl => ?_)
            refine lv_iload hx hb dJ27_getChars_70 (lv_at hl 0 rfl) ?_
            refine r_gets hx hb hts hown hS 17 rfl q1023 dJ27_getChars_72 ?_
            refine lv_iload hx hb dJ27_getChars_75 (lv_at hl 2 rfl) ?_
            obtain ⟨i42, xi42, h⟩ := gd_step (by decide) h
            refine r_bald hx hb hS (hS.1.RA hS.1.1.2.2.2.1.2.2.2.2.2.2.2.2.2.1) i42 xi42 dJ27_getChars_77 ?_
            obtain ⟨v43, ev43, h⟩ := lti_step h
            refine r_nmI ev43 ?_
            obtain ⟨i44, xi44, h⟩ := gd_step (nl0 l_x2) h
            obtain ⟨f45, ef45, h⟩ := lt_step h
            refine r_bast hx hb hS h_x2 hB_h_x2 i44 xi44 dJ27_getChars_78 (fun H locs hS hO h_x2 => ?_)
            have h_x2 : aB D x2 x2n f45 H := by rw [ef45]; exact h_x2
            have hF := hF.fresh hO (fun a ha z => z)
            refine lv_goto (tgt := 24) hx hb dJ27_getChars_79 (by decide) ?_
            obtain rfl := Option.some.inj h
            exact ih f45 v32 v41 w28 hk  H locs hS hF h_x2 ls (lv_sub hl [1, 4, 0, 5] rfl) K82
      clear eF27
      refine HL 11 x2c x0 x1 w28 ew28  H locs hS hF h_x2 ls (lv_sub hl [1, 2, 3, 0] rfl) (fun  H locs hS hF h_x2 ls hl => ?_)
      refine lv_lload_n hx hb dJ27_getChars_82 rfl (lv_at hl 0 rfl) ?_
      obtain ⟨v46, ev46, h⟩ := lti_step h
      refine r_l2i hx hb ev46 dJ27_getChars_83 ?_
      refine lv_istore (lv' := [(10, .int v46), (0, .long w28.2.1), (3, .ref x2), (7, .int w28.2.2), (8, .int (bI v2))]) hx hb dJ27_getChars_84 hl (by decide) rfl (fun ls hl => ?_)
      obtain ⟨F67, eF67, h⟩ := lt_step h
      obtain ⟨w68, ew68, h⟩ := bind_step h
      have HL : ∀ (n : Nat) (f47 : Nat → Int32) (v48 : Int32) (v49 : Int32) (w68 : (Nat → Int32) × Int32 × Int32) (hk0 : lp n (fun x => F67 x.1 x.2.1 x.2.2) (f47, v48, v49) = some w68)  (H : Heap) (locs : List Loc) (hS : St D s H locs) (hF : Off (fun a => a = x2) s.heap H) (h_x2 : aB D x2 x2n f47 H) (ls : Array Slot) (hl : lv_has ls 11 [(3, .ref x2), (7, .int v48), (8, .int (bI v2)), (10, .int v49)]) (K143 : ∀ (H : Heap) (locs : List Loc) (hS : St D s H locs) (hF : Off (fun a => a = x2) s.heap H) (h_x2 : aB D x2 x2n w68.1 H) (ls : Array Slot) (hl : lv_has ls 11 [(3, .ref x2), (7, .int w68.2.1), (8, .int (bI v2)), (10, .int w68.2.2)]), W p l e R_J27_getChars s m A below meth c H locs 0 0 Q (F0 m 143 ls [])), W p l e R_J27_getChars s m A below meth c H locs 0 0 Q (F0 m 86 ls []) := by
        intro n
        induction n with
        | zero => intro f47 v48 v49 w68 hk0  H locs hS hF h_x2 ls hl K143; exact lp_zero hk0
        | succ n ih =>
          intro f47 v48 v49 w68 hk0  H locs hS hF h_x2 ls hl K143
          obtain ⟨z69, hz, hk⟩ := lp_step hk0
          have h := (congrFun (congrFun (congrFun (eF67) f47) v48) v49).symm.trans hz
          refine lv_iload hx hb dJ27_getChars_86 (lv_at hl 3 rfl) ?_
          refine lv_bipush (v := (-100)) hx hb dJ27_getChars_88 (by decide) ?_
          refine lv_icmp_gt (tgt := 143) hx hb dJ27_getChars_90 (by decide) (fun c70 => ?_) (fun c70 => ?_)
          · have h := it_pos h c70
            obtain rfl := Option.some.inj h
            obtain rfl := id hk
            exact K143 H locs hS hF h_x2 ls (lv_sub hl [0, 1, 2, 3] rfl)
          · have h := it_neg h c70
            refine lv_iload hx hb dJ27_getChars_93 (lv_at hl 3 rfl) ?_
            refine lv_bipush (v := 100) hx hb dJ27_getChars_95 (by decide) ?_
            obtain ⟨v71, ev71, h⟩ := lti_step h
            refine r_idiv hx hb ev71 (by decide) dJ27_getChars_97 ?_
            refine lv_istore (lv' := [(9, .int v71), (3, .ref x2), (7, .int v48), (8, .int (bI v2)), (10, .int v49)]) hx hb dJ27_getChars_98 hl (by decide) rfl (fun ls hl => ?_)
            refine lv_iload hx hb dJ27_getChars_100 (lv_at hl 0 rfl) ?_
            refine lv_bipush (v := 100) hx hb dJ27_getChars_102 (by decide) ?_
            obtain ⟨v72, ev72, h⟩ := lti_step h
            refine r_imul hx hb ev72 dJ27_getChars_104 ?_
            refine lv_iload hx hb dJ27_getChars_105 (lv_at hl 4 rfl) ?_
            obtain ⟨v73, ev73, h⟩ := lti_step h
            refine r_isub hx hb ev73 dJ27_getChars_107 ?_
            refine lv_istore (lv' := [(6, .int v73), (9, .int v71), (3, .ref x2), (7, .int v48), (8, .int (bI v2)), (10, .int v49)]) hx hb dJ27_getChars_108 hl (by decide) rfl (fun ls hl => ?_)
            refine lv_iload hx hb dJ27_getChars_110 (lv_at hl 1 rfl) ?_
            refine lv_istore (lv' := [(10, .int v71), (6, .int v73), (9, .int v71), (3, .ref x2), (7, .int v48), (8, .int (bI v2))]) hx hb dJ27_getChars_112 hl (by decide) rfl (fun ls hl => ?_)
            refine lv_aload_n hx hb dJ27_getChars_114 rfl (lv_at hl 3 rfl) ?_
            obtain ⟨v74, ev74, h⟩ := lti_step h
            refine lv_iinc (v := v74) (lv' := [(7, .int v74), (10, .int v71), (6, .int v73), (9, .int v71), (3, .ref x2), (8, .int (bI v2))]) hx hb dJ27_getChars_115 hl (k := 4) rfl (by rw [ev74]; rfl) (by decide) rfl (fun ls hl => ?_)
            refine lv_iload hx hb dJ27_getChars_118 (lv_at hl 0 rfl) ?_
            refine r_gets hx hb hts hown hS 16 rfl q1022 dJ27_getChars_120 ?_
            refine lv_iload hx hb dJ27_getChars_123 (lv_at hl 2 rfl) ?_
            obtain ⟨i75, xi75, h⟩ := gd_step (by decide) h
            refine r_bald hx hb hS (hS.1.RA hS.1.1.2.2.2.1.2.2.2.2.2.2.2.2.1) i75 xi75 dJ27_getChars_125 ?_
            obtain ⟨v76, ev76, h⟩ := lti_step h
            refine r_nmI ev76 ?_
            obtain ⟨i77, xi77, h⟩ := gd_step (nl0 l_x2) h
            obtain ⟨f78, ef78, h⟩ := lt_step h
            refine r_bast hx hb hS h_x2 hB_h_x2 i77 xi77 dJ27_getChars_126 (fun H locs hS hO h_x2 => ?_)
            have h_x2 : aB D x2 x2n f78 H := by rw [ef78]; exact h_x2
            have hF := hF.fresh hO (fun a ha z => z)
            refine lv_aload_n hx hb dJ27_getChars_127 rfl (lv_at hl 4 rfl) ?_
            obtain ⟨v79, ev79, h⟩ := lti_step h
            refine lv_iinc (v := v79) (lv' := [(7, .int v79), (10, .int v71), (6, .int v73), (9, .int v71), (3, .ref x2), (8, .int (bI v2))]) hx hb dJ27_getChars_128 hl (k := 0) rfl (by rw [ev79]; rfl) (by decide) rfl (fun ls hl => ?_)
            refine lv_iload hx hb dJ27_getChars_131 (lv_at hl 0 rfl) ?_
            refine r_gets hx hb hts hown hS 17 rfl q1023 dJ27_getChars_133 ?_
            refine lv_iload hx hb dJ27_getChars_136 (lv_at hl 2 rfl) ?_
            obtain ⟨i80, xi80, h⟩ := gd_step (by decide) h
            refine r_bald hx hb hS (hS.1.RA hS.1.1.2.2.2.1.2.2.2.2.2.2.2.2.2.1) i80 xi80 dJ27_getChars_138 ?_
            obtain ⟨v81, ev81, h⟩ := lti_step h
            refine r_nmI ev81 ?_
            obtain ⟨i82, xi82, h⟩ := gd_step (nl0 l_x2) h
            obtain ⟨f83, ef83, h⟩ := lt_step h
            refine r_bast hx hb hS h_x2 hB_h_x2 i82 xi82 dJ27_getChars_139 (fun H locs hS hO h_x2 => ?_)
            have h_x2 : aB D x2 x2n f83 H := by rw [ef83]; exact h_x2
            have hF := hF.fresh hO (fun a ha z => z)
            refine lv_goto (tgt := 86) hx hb dJ27_getChars_140 (by decide) ?_
            obtain rfl := Option.some.inj h
            exact ih f83 v79 v71 w68 hk  H locs hS hF h_x2 ls (lv_sub hl [4, 0, 5, 1] rfl) K143
      clear eF67
      refine HL 6 w28.1 w28.2.2 v46 w68 ew68  H locs hS hF h_x2 ls (lv_sub hl [2, 3, 4, 0] rfl) (fun  H locs hS hF h_x2 ls hl => ?_)
      refine lv_aload_n hx hb dJ27_getChars_143 rfl (lv_at hl 0 rfl) ?_
      obtain ⟨v84, ev84, h⟩ := lti_step h
      refine lv_iinc (v := v84) (lv' := [(7, .int v84), (3, .ref x2), (8, .int (bI v2)), (10, .int w68.2.2)]) hx hb dJ27_getChars_144 hl (k := 1) rfl (by rw [ev84]; rfl) (by decide) rfl (fun ls hl => ?_)
      refine lv_iload hx hb dJ27_getChars_147 (lv_at hl 0 rfl) ?_
      refine r_gets hx hb hts hown hS 16 rfl q1022 dJ27_getChars_149 ?_
      refine lv_iload hx hb dJ27_getChars_152 (lv_at hl 3 rfl) ?_
      obtain ⟨v85, ev85, h⟩ := lti_step h
      refine r_ineg hx hb ev85 dJ27_getChars_154 ?_
      obtain ⟨i86, xi86, h⟩ := gd_step (by decide) h
      refine r_bald hx hb hS (hS.1.RA hS.1.1.2.2.2.1.2.2.2.2.2.2.2.2.1) i86 xi86 dJ27_getChars_155 ?_
      obtain ⟨v87, ev87, h⟩ := lti_step h
      refine r_nmI ev87 ?_
      obtain ⟨i88, xi88, h⟩ := gd_step (nl0 l_x2) h
      obtain ⟨f89, ef89, h⟩ := lt_step h
      refine r_bast hx hb hS h_x2 hB_h_x2 i88 xi88 dJ27_getChars_156 (fun H locs hS hO h_x2 => ?_)
      have h_x2 : aB D x2 x2n f89 H := by rw [ef89]; exact h_x2
      have hF := hF.fresh hO (fun a ha z => z)
      refine lv_iload hx hb dJ27_getChars_157 (lv_at hl 3 rfl) ?_
      refine lv_bipush (v := (-9)) hx hb dJ27_getChars_159 (by decide) ?_
      obtain ⟨K92, eK92, h⟩ := lt_step h
      have HK92 : ∀ (f90 : Nat → Int32) (v91 : Int32) (h : K92 f90 v91 = some r) (H : Heap) (locs : List Loc) (hS : St D s H locs) (hF : Off (fun a => a = x2) s.heap H) (h_x2 : aB D x2 x2n f90 H) (ls : Array Slot) (hl : lv_has ls 11 [(3, .ref x2), (7, .int v91), (8, .int (bI v2))]), W p l e R_J27_getChars s m A below meth c H locs 0 0 Q (F0 m 178 ls []) := by
        intro f90 v91 h H locs hS hF h_x2 ls hl
        subst eK92
        refine lv_iload hx hb dJ27_getChars_178 (lv_at hl 2 rfl) ?_
        refine r_ifz_eq (tgt := 192) hx hb dJ27_getChars_180 (by decide) (fun c93 => ?_) (fun c93 => ?_)
        · have h := it_neg h (by rw [c93]; decide)
          refine lv_iload hx hb dJ27_getChars_192 (lv_at hl 1 rfl) ?_
          obtain rfl := Option.some.inj h
          rw [eQ]
          exact r_iret hx hb hr hlk hS (Nat.le_of_ble_eq_true rfl) (Nat.le_of_ble_eq_true rfl) dJ27_getChars_194 ⟨_, rfl, rfl, h_x2, hF⟩
        · have h := it_pos h (by rw [c93])
          refine lv_aload_n hx hb dJ27_getChars_183 rfl (lv_at hl 0 rfl) ?_
          obtain ⟨v94, ev94, h⟩ := lti_step h
          refine lv_iinc (v := v94) (lv' := [(7, .int v94), (3, .ref x2), (8, .int (bI v2))]) hx hb dJ27_getChars_184 hl (k := 1) rfl (by rw [ev94]; rfl) (by decide) rfl (fun ls hl => ?_)
          refine lv_iload hx hb dJ27_getChars_187 (lv_at hl 0 rfl) ?_
          refine lv_bipush (v := 45) hx hb dJ27_getChars_189 (by decide) ?_
          obtain ⟨i95, xi95, h⟩ := gd_step (nl0 l_x2) h
          obtain ⟨f96, ef96, h⟩ := lt_step h
          refine r_bast hx hb hS h_x2 hB_h_x2 i95 xi95 dJ27_getChars_191 (fun H locs hS hO h_x2 => ?_)
          have h_x2 : aB D x2 x2n f96 H := by rw [ef96]; exact h_x2
          have hF := hF.fresh hO (fun a ha z => z)
          refine lv_iload hx hb dJ27_getChars_192 (lv_at hl 0 rfl) ?_
          obtain rfl := Option.some.inj h
          rw [eQ]
          exact r_iret hx hb hr hlk hS (Nat.le_of_ble_eq_true rfl) (Nat.le_of_ble_eq_true rfl) dJ27_getChars_194 ⟨_, rfl, rfl, h_x2, hF⟩
      clear eK92
      refine lv_icmp_ge (tgt := 178) hx hb dJ27_getChars_161 (by decide) (fun c97 => ?_) (fun c97 => ?_)
      · have h := it_pos h c97
        exact HK92 f89 v84 h H locs hS hF h_x2 ls (lv_sub hl [1, 0, 2] rfl)
      · have h := it_neg h c97
        refine lv_aload_n hx hb dJ27_getChars_164 rfl (lv_at hl 1 rfl) ?_
        obtain ⟨v98, ev98, h⟩ := lti_step h
        refine lv_iinc (v := v98) (lv' := [(7, .int v98), (3, .ref x2), (8, .int (bI v2)), (10, .int w68.2.2)]) hx hb dJ27_getChars_165 hl (k := 0) rfl (by rw [ev98]; rfl) (by decide) rfl (fun ls hl => ?_)
        refine lv_iload hx hb dJ27_getChars_168 (lv_at hl 0 rfl) ?_
        refine r_gets hx hb hts hown hS 17 rfl q1023 dJ27_getChars_170 ?_
        refine lv_iload hx hb dJ27_getChars_173 (lv_at hl 3 rfl) ?_
        obtain ⟨v99, ev99, h⟩ := lti_step h
        refine r_ineg hx hb ev99 dJ27_getChars_175 ?_
        obtain ⟨i100, xi100, h⟩ := gd_step (by decide) h
        refine r_bald hx hb hS (hS.1.RA hS.1.1.2.2.2.1.2.2.2.2.2.2.2.2.2.1) i100 xi100 dJ27_getChars_176 ?_
        obtain ⟨v101, ev101, h⟩ := lti_step h
        refine r_nmI ev101 ?_
        obtain ⟨i102, xi102, h⟩ := gd_step (nl0 l_x2) h
        obtain ⟨f103, ef103, h⟩ := lt_step h
        refine r_bast hx hb hS h_x2 hB_h_x2 i102 xi102 dJ27_getChars_177 (fun H locs hS hO h_x2 => ?_)
        have h_x2 : aB D x2 x2n f103 H := by rw [ef103]; exact h_x2
        have hF := hF.fresh hO (fun a ha z => z)
        exact HK92 f103 v98 h H locs hS hF h_x2 ls (lv_sub hl [1, 0, 2] rfl)
    · have h := it_neg h (by rw [c4]; decide)
      refine lv_lload_n hx hb dJ27_getChars_21 rfl (lv_at hl 1 rfl) ?_
      obtain ⟨v104, ev104, h⟩ := ltl_step h
      refine r_lneg hx hb ev104 dJ27_getChars_22 ?_
      refine lv_lstore_n (lv' := [(0, .long v104), (8, .int (bI v2)), (3, .ref x2), (7, .int x1)]) hx hb dJ27_getChars_23 rfl hl (by decide) rfl (fun ls hl => ?_)
      obtain ⟨F127, eF127, h⟩ := lt_step h
      obtain ⟨w128, ew128, h⟩ := bind_step h
      have HL : ∀ (n : Nat) (f105 : Nat → Int32) (v106 : Int64) (v107 : Int32) (w128 : (Nat → Int32) × Int64 × Int32) (hk0 : lp n (fun x => F127 x.1 x.2.1 x.2.2) (f105, v106, v107) = some w128)  (H : Heap) (locs : List Loc) (hS : St D s H locs) (hF : Off (fun a => a = x2) s.heap H) (h_x2 : aB D x2 x2n f105 H) (ls : Array Slot) (hl : lv_has ls 11 [(0, .long v106), (3, .ref x2), (7, .int v107), (8, .int (bI v2))]) (K82 : ∀ (H : Heap) (locs : List Loc) (hS : St D s H locs) (hF : Off (fun a => a = x2) s.heap H) (h_x2 : aB D x2 x2n w128.1 H) (ls : Array Slot) (hl : lv_has ls 11 [(0, .long w128.2.1), (3, .ref x2), (7, .int w128.2.2), (8, .int (bI v2))]), W p l e R_J27_getChars s m A below meth c H locs 0 0 Q (F0 m 82 ls [])), W p l e R_J27_getChars s m A below meth c H locs 0 0 Q (F0 m 24 ls []) := by
        intro n
        induction n with
        | zero => intro f105 v106 v107 w128 hk0  H locs hS hF h_x2 ls hl K82; exact lp_zero hk0
        | succ n ih =>
          intro f105 v106 v107 w128 hk0  H locs hS hF h_x2 ls hl K82
          obtain ⟨z129, hz, hk⟩ := lp_step hk0
          have h := (congrFun (congrFun (congrFun (eF127) f105) v106) v107).symm.trans hz
          refine lv_lload_n hx hb dJ27_getChars_24 rfl (lv_at hl 0 rfl) ?_
          refine lv_ldc2 hx hb (v := (-2147483648)) hown (hts _ q1020) dJ27_getChars_25 ?_
          obtain ⟨v130, ev130, h⟩ := lti_step h
          refine r_lcmp hx hb ev130 dJ27_getChars_28 ?_
          refine lv_if_gt (tgt := 82) hx hb dJ27_getChars_29 (by decide) (fun c131 => ?_) (fun c131 => ?_)
          · have h := it_pos h c131
            obtain rfl := Option.some.inj h
            obtain rfl := id hk
            exact K82 H locs hS hF h_x2 ls (lv_sub hl [0, 1, 2, 3] rfl)
          · have h := it_neg h c131
            refine lv_lload_n hx hb dJ27_getChars_32 rfl (lv_at hl 0 rfl) ?_
            refine lv_ldc2 hx hb (v := 100) hown (hts _ q1021) dJ27_getChars_33 ?_
            obtain ⟨v132, ev132, h⟩ := ltl_step h
            refine r_ldiv hx hb ev132 (by decide) dJ27_getChars_36 ?_
            refine lv_lstore (lv' := [(4, .long v132), (0, .long v106), (3, .ref x2), (7, .int v107), (8, .int (bI v2))]) hx hb dJ27_getChars_37 hl (by decide) rfl (fun ls hl => ?_)
            refine lv_lload hx hb dJ27_getChars_39 (lv_at hl 0 rfl) ?_
            refine lv_ldc2 hx hb (v := 100) hown (hts _ q1021) dJ27_getChars_41 ?_
            obtain ⟨v133, ev133, h⟩ := ltl_step h
            refine r_lmul hx hb ev133 dJ27_getChars_44 ?_
            refine lv_lload_n hx hb dJ27_getChars_45 rfl (lv_at hl 1 rfl) ?_
            obtain ⟨v134, ev134, h⟩ := ltl_step h
            refine r_lsub hx hb ev134 dJ27_getChars_46 ?_
            obtain ⟨v135, ev135, h⟩ := lti_step h
            refine r_l2i hx hb ev135 dJ27_getChars_47 ?_
            refine lv_istore (lv' := [(6, .int v135), (4, .long v132), (0, .long v106), (3, .ref x2), (7, .int v107), (8, .int (bI v2))]) hx hb dJ27_getChars_48 hl (by decide) rfl (fun ls hl => ?_)
            refine lv_lload hx hb dJ27_getChars_50 (lv_at hl 1 rfl) ?_
            refine lv_lstore_n (lv' := [(0, .long v132), (6, .int v135), (4, .long v132), (3, .ref x2), (7, .int v107), (8, .int (bI v2))]) hx hb dJ27_getChars_52 rfl hl (by decide) rfl (fun ls hl => ?_)
            refine lv_aload_n hx hb dJ27_getChars_53 rfl (lv_at hl 3 rfl) ?_
            obtain ⟨v136, ev136, h⟩ := lti_step h
            refine lv_iinc (v := v136) (lv' := [(7, .int v136), (0, .long v132), (6, .int v135), (4, .long v132), (3, .ref x2), (8, .int (bI v2))]) hx hb dJ27_getChars_54 hl (k := 4) rfl (by rw [ev136]; rfl) (by decide) rfl (fun ls hl => ?_)
            refine lv_iload hx hb dJ27_getChars_57 (lv_at hl 0 rfl) ?_
            refine r_gets hx hb hts hown hS 16 rfl q1022 dJ27_getChars_59 ?_
            refine lv_iload hx hb dJ27_getChars_62 (lv_at hl 2 rfl) ?_
            obtain ⟨i137, xi137, h⟩ := gd_step (by decide) h
            refine r_bald hx hb hS (hS.1.RA hS.1.1.2.2.2.1.2.2.2.2.2.2.2.2.1) i137 xi137 dJ27_getChars_64 ?_
            obtain ⟨v138, ev138, h⟩ := lti_step h
            refine r_nmI ev138 ?_
            obtain ⟨i139, xi139, h⟩ := gd_step (nl0 l_x2) h
            obtain ⟨f140, ef140, h⟩ := lt_step h
            refine r_bast hx hb hS h_x2 hB_h_x2 i139 xi139 dJ27_getChars_65 (fun H locs hS hO h_x2 => ?_)
            have h_x2 : aB D x2 x2n f140 H := by rw [ef140]; exact h_x2
            have hF := hF.fresh hO (fun a ha z => z)
            refine lv_aload_n hx hb dJ27_getChars_66 rfl (lv_at hl 4 rfl) ?_
            obtain ⟨v141, ev141, h⟩ := lti_step h
            refine lv_iinc (v := v141) (lv' := [(7, .int v141), (0, .long v132), (6, .int v135), (4, .long v132), (3, .ref x2), (8, .int (bI v2))]) hx hb dJ27_getChars_67 hl (k := 0) rfl (by rw [ev141]; rfl) (by decide) rfl (fun ls hl => ?_)
            refine lv_iload hx hb dJ27_getChars_70 (lv_at hl 0 rfl) ?_
            refine r_gets hx hb hts hown hS 17 rfl q1023 dJ27_getChars_72 ?_
            refine lv_iload hx hb dJ27_getChars_75 (lv_at hl 2 rfl) ?_
            obtain ⟨i142, xi142, h⟩ := gd_step (by decide) h
            refine r_bald hx hb hS (hS.1.RA hS.1.1.2.2.2.1.2.2.2.2.2.2.2.2.2.1) i142 xi142 dJ27_getChars_77 ?_
            obtain ⟨v143, ev143, h⟩ := lti_step h
            refine r_nmI ev143 ?_
            obtain ⟨i144, xi144, h⟩ := gd_step (nl0 l_x2) h
            obtain ⟨f145, ef145, h⟩ := lt_step h
            refine r_bast hx hb hS h_x2 hB_h_x2 i144 xi144 dJ27_getChars_78 (fun H locs hS hO h_x2 => ?_)
            have h_x2 : aB D x2 x2n f145 H := by rw [ef145]; exact h_x2
            have hF := hF.fresh hO (fun a ha z => z)
            refine lv_goto (tgt := 24) hx hb dJ27_getChars_79 (by decide) ?_
            obtain rfl := Option.some.inj h
            exact ih f145 v132 v141 w128 hk  H locs hS hF h_x2 ls (lv_sub hl [1, 4, 0, 5] rfl) K82
      clear eF127
      refine HL 11 x2c v104 x1 w128 ew128  H locs hS hF h_x2 ls (lv_sub hl [0, 2, 3, 1] rfl) (fun  H locs hS hF h_x2 ls hl => ?_)
      refine lv_lload_n hx hb dJ27_getChars_82 rfl (lv_at hl 0 rfl) ?_
      obtain ⟨v146, ev146, h⟩ := lti_step h
      refine r_l2i hx hb ev146 dJ27_getChars_83 ?_
      refine lv_istore (lv' := [(10, .int v146), (0, .long w128.2.1), (3, .ref x2), (7, .int w128.2.2), (8, .int (bI v2))]) hx hb dJ27_getChars_84 hl (by decide) rfl (fun ls hl => ?_)
      obtain ⟨F167, eF167, h⟩ := lt_step h
      obtain ⟨w168, ew168, h⟩ := bind_step h
      have HL : ∀ (n : Nat) (f147 : Nat → Int32) (v148 : Int32) (v149 : Int32) (w168 : (Nat → Int32) × Int32 × Int32) (hk0 : lp n (fun x => F167 x.1 x.2.1 x.2.2) (f147, v148, v149) = some w168)  (H : Heap) (locs : List Loc) (hS : St D s H locs) (hF : Off (fun a => a = x2) s.heap H) (h_x2 : aB D x2 x2n f147 H) (ls : Array Slot) (hl : lv_has ls 11 [(3, .ref x2), (7, .int v148), (8, .int (bI v2)), (10, .int v149)]) (K143 : ∀ (H : Heap) (locs : List Loc) (hS : St D s H locs) (hF : Off (fun a => a = x2) s.heap H) (h_x2 : aB D x2 x2n w168.1 H) (ls : Array Slot) (hl : lv_has ls 11 [(3, .ref x2), (7, .int w168.2.1), (8, .int (bI v2)), (10, .int w168.2.2)]), W p l e R_J27_getChars s m A below meth c H locs 0 0 Q (F0 m 143 ls [])), W p l e R_J27_getChars s m A below meth c H locs 0 0 Q (F0 m 86 ls []) := by
        intro n
        induction n with
        | zero => intro f147 v148 v149 w168 hk0  H locs hS hF h_x2 ls hl K143; exact lp_zero hk0
        | succ n ih =>
          intro f147 v148 v149 w168 hk0  H locs hS hF h_x2 ls hl K143
          obtain ⟨z169, hz, hk⟩ := lp_step hk0
          have h := (congrFun (congrFun (congrFun (eF167) f147) v148) v149).symm.trans hz
          refine lv_iload hx hb dJ27_getChars_86 (lv_at hl 3 rfl) ?_
          refine lv_bipush (v := (-100)) hx hb dJ27_getChars_88 (by decide) ?_
          refine lv_icmp_gt (tgt := 143) hx hb dJ27_getChars_90 (by decide) (fun c170 => ?_) (fun c170 => ?_)
          · have h := it_pos h c170
            obtain rfl := Option.some.inj h
            obtain rfl := id hk
            exact K143 H locs hS hF h_x2 ls (lv_sub hl [0, 1, 2, 3] rfl)
          · have h := it_neg h c170
            refine lv_iload hx hb dJ27_getChars_93 (lv_at hl 3 rfl) ?_
            refine lv_bipush (v := 100) hx hb dJ27_getChars_95 (by decide) ?_
            obtain ⟨v171, ev171, h⟩ := lti_step h
            refine r_idiv hx hb ev171 (by decide) dJ27_getChars_97 ?_
            refine lv_istore (lv' := [(9, .int v171), (3, .ref x2), (7, .int v148), (8, .int (bI v2)), (10, .int v149)]) hx hb dJ27_getChars_98 hl (by decide) rfl (fun ls hl => ?_)
            refine lv_iload hx hb dJ27_getChars_100 (lv_at hl 0 rfl) ?_
            refine lv_bipush (v := 100) hx hb dJ27_getChars_102 (by decide) ?_
            obtain ⟨v172, ev172, h⟩ := lti_step h
            refine r_imul hx hb ev172 dJ27_getChars_104 ?_
            refine lv_iload hx hb dJ27_getChars_105 (lv_at hl 4 rfl) ?_
            obtain ⟨v173, ev173, h⟩ := lti_step h
            refine r_isub hx hb ev173 dJ27_getChars_107 ?_
            refine lv_istore (lv' := [(6, .int v173), (9, .int v171), (3, .ref x2), (7, .int v148), (8, .int (bI v2)), (10, .int v149)]) hx hb dJ27_getChars_108 hl (by decide) rfl (fun ls hl => ?_)
            refine lv_iload hx hb dJ27_getChars_110 (lv_at hl 1 rfl) ?_
            refine lv_istore (lv' := [(10, .int v171), (6, .int v173), (9, .int v171), (3, .ref x2), (7, .int v148), (8, .int (bI v2))]) hx hb dJ27_getChars_112 hl (by decide) rfl (fun ls hl => ?_)
            refine lv_aload_n hx hb dJ27_getChars_114 rfl (lv_at hl 3 rfl) ?_
            obtain ⟨v174, ev174, h⟩ := lti_step h
            refine lv_iinc (v := v174) (lv' := [(7, .int v174), (10, .int v171), (6, .int v173), (9, .int v171), (3, .ref x2), (8, .int (bI v2))]) hx hb dJ27_getChars_115 hl (k := 4) rfl (by rw [ev174]; rfl) (by decide) rfl (fun ls hl => ?_)
            refine lv_iload hx hb dJ27_getChars_118 (lv_at hl 0 rfl) ?_
            refine r_gets hx hb hts hown hS 16 rfl q1022 dJ27_getChars_120 ?_
            refine lv_iload hx hb dJ27_getChars_123 (lv_at hl 2 rfl) ?_
            obtain ⟨i175, xi175, h⟩ := gd_step (by decide) h
            refine r_bald hx hb hS (hS.1.RA hS.1.1.2.2.2.1.2.2.2.2.2.2.2.2.1) i175 xi175 dJ27_getChars_125 ?_
            obtain ⟨v176, ev176, h⟩ := lti_step h
            refine r_nmI ev176 ?_
            obtain ⟨i177, xi177, h⟩ := gd_step (nl0 l_x2) h
            obtain ⟨f178, ef178, h⟩ := lt_step h
            refine r_bast hx hb hS h_x2 hB_h_x2 i177 xi177 dJ27_getChars_126 (fun H locs hS hO h_x2 => ?_)
            have h_x2 : aB D x2 x2n f178 H := by rw [ef178]; exact h_x2
            have hF := hF.fresh hO (fun a ha z => z)
            refine lv_aload_n hx hb dJ27_getChars_127 rfl (lv_at hl 4 rfl) ?_
            obtain ⟨v179, ev179, h⟩ := lti_step h
            refine lv_iinc (v := v179) (lv' := [(7, .int v179), (10, .int v171), (6, .int v173), (9, .int v171), (3, .ref x2), (8, .int (bI v2))]) hx hb dJ27_getChars_128 hl (k := 0) rfl (by rw [ev179]; rfl) (by decide) rfl (fun ls hl => ?_)
            refine lv_iload hx hb dJ27_getChars_131 (lv_at hl 0 rfl) ?_
            refine r_gets hx hb hts hown hS 17 rfl q1023 dJ27_getChars_133 ?_
            refine lv_iload hx hb dJ27_getChars_136 (lv_at hl 2 rfl) ?_
            obtain ⟨i180, xi180, h⟩ := gd_step (by decide) h
            refine r_bald hx hb hS (hS.1.RA hS.1.1.2.2.2.1.2.2.2.2.2.2.2.2.2.1) i180 xi180 dJ27_getChars_138 ?_
            obtain ⟨v181, ev181, h⟩ := lti_step h
            refine r_nmI ev181 ?_
            obtain ⟨i182, xi182, h⟩ := gd_step (nl0 l_x2) h
            obtain ⟨f183, ef183, h⟩ := lt_step h
            refine r_bast hx hb hS h_x2 hB_h_x2 i182 xi182 dJ27_getChars_139 (fun H locs hS hO h_x2 => ?_)
            have h_x2 : aB D x2 x2n f183 H := by rw [ef183]; exact h_x2
            have hF := hF.fresh hO (fun a ha z => z)
            refine lv_goto (tgt := 86) hx hb dJ27_getChars_140 (by decide) ?_
            obtain rfl := Option.some.inj h
            exact ih f183 v179 v171 w168 hk  H locs hS hF h_x2 ls (lv_sub hl [4, 0, 5, 1] rfl) K143
      clear eF167
      refine HL 6 w128.1 w128.2.2 v146 w168 ew168  H locs hS hF h_x2 ls (lv_sub hl [2, 3, 4, 0] rfl) (fun  H locs hS hF h_x2 ls hl => ?_)
      refine lv_aload_n hx hb dJ27_getChars_143 rfl (lv_at hl 0 rfl) ?_
      obtain ⟨v184, ev184, h⟩ := lti_step h
      refine lv_iinc (v := v184) (lv' := [(7, .int v184), (3, .ref x2), (8, .int (bI v2)), (10, .int w168.2.2)]) hx hb dJ27_getChars_144 hl (k := 1) rfl (by rw [ev184]; rfl) (by decide) rfl (fun ls hl => ?_)
      refine lv_iload hx hb dJ27_getChars_147 (lv_at hl 0 rfl) ?_
      refine r_gets hx hb hts hown hS 16 rfl q1022 dJ27_getChars_149 ?_
      refine lv_iload hx hb dJ27_getChars_152 (lv_at hl 3 rfl) ?_
      obtain ⟨v185, ev185, h⟩ := lti_step h
      refine r_ineg hx hb ev185 dJ27_getChars_154 ?_
      obtain ⟨i186, xi186, h⟩ := gd_step (by decide) h
      refine r_bald hx hb hS (hS.1.RA hS.1.1.2.2.2.1.2.2.2.2.2.2.2.2.1) i186 xi186 dJ27_getChars_155 ?_
      obtain ⟨v187, ev187, h⟩ := lti_step h
      refine r_nmI ev187 ?_
      obtain ⟨i188, xi188, h⟩ := gd_step (nl0 l_x2) h
      obtain ⟨f189, ef189, h⟩ := lt_step h
      refine r_bast hx hb hS h_x2 hB_h_x2 i188 xi188 dJ27_getChars_156 (fun H locs hS hO h_x2 => ?_)
      have h_x2 : aB D x2 x2n f189 H := by rw [ef189]; exact h_x2
      have hF := hF.fresh hO (fun a ha z => z)
      refine lv_iload hx hb dJ27_getChars_157 (lv_at hl 3 rfl) ?_
      refine lv_bipush (v := (-9)) hx hb dJ27_getChars_159 (by decide) ?_
      obtain ⟨K192, eK192, h⟩ := lt_step h
      have HK192 : ∀ (f190 : Nat → Int32) (v191 : Int32) (h : K192 f190 v191 = some r) (H : Heap) (locs : List Loc) (hS : St D s H locs) (hF : Off (fun a => a = x2) s.heap H) (h_x2 : aB D x2 x2n f190 H) (ls : Array Slot) (hl : lv_has ls 11 [(3, .ref x2), (7, .int v191), (8, .int (bI v2))]), W p l e R_J27_getChars s m A below meth c H locs 0 0 Q (F0 m 178 ls []) := by
        intro f190 v191 h H locs hS hF h_x2 ls hl
        subst eK192
        refine lv_iload hx hb dJ27_getChars_178 (lv_at hl 2 rfl) ?_
        refine r_ifz_eq (tgt := 192) hx hb dJ27_getChars_180 (by decide) (fun c193 => ?_) (fun c193 => ?_)
        · have h := it_neg h (by rw [c193]; decide)
          refine lv_iload hx hb dJ27_getChars_192 (lv_at hl 1 rfl) ?_
          obtain rfl := Option.some.inj h
          rw [eQ]
          exact r_iret hx hb hr hlk hS (Nat.le_of_ble_eq_true rfl) (Nat.le_of_ble_eq_true rfl) dJ27_getChars_194 ⟨_, rfl, rfl, h_x2, hF⟩
        · have h := it_pos h (by rw [c193])
          refine lv_aload_n hx hb dJ27_getChars_183 rfl (lv_at hl 0 rfl) ?_
          obtain ⟨v194, ev194, h⟩ := lti_step h
          refine lv_iinc (v := v194) (lv' := [(7, .int v194), (3, .ref x2), (8, .int (bI v2))]) hx hb dJ27_getChars_184 hl (k := 1) rfl (by rw [ev194]; rfl) (by decide) rfl (fun ls hl => ?_)
          refine lv_iload hx hb dJ27_getChars_187 (lv_at hl 0 rfl) ?_
          refine lv_bipush (v := 45) hx hb dJ27_getChars_189 (by decide) ?_
          obtain ⟨i195, xi195, h⟩ := gd_step (nl0 l_x2) h
          obtain ⟨f196, ef196, h⟩ := lt_step h
          refine r_bast hx hb hS h_x2 hB_h_x2 i195 xi195 dJ27_getChars_191 (fun H locs hS hO h_x2 => ?_)
          have h_x2 : aB D x2 x2n f196 H := by rw [ef196]; exact h_x2
          have hF := hF.fresh hO (fun a ha z => z)
          refine lv_iload hx hb dJ27_getChars_192 (lv_at hl 0 rfl) ?_
          obtain rfl := Option.some.inj h
          rw [eQ]
          exact r_iret hx hb hr hlk hS (Nat.le_of_ble_eq_true rfl) (Nat.le_of_ble_eq_true rfl) dJ27_getChars_194 ⟨_, rfl, rfl, h_x2, hF⟩
      clear eK192
      refine lv_icmp_ge (tgt := 178) hx hb dJ27_getChars_161 (by decide) (fun c197 => ?_) (fun c197 => ?_)
      · have h := it_pos h c197
        exact HK192 f189 v184 h H locs hS hF h_x2 ls (lv_sub hl [1, 0, 2] rfl)
      · have h := it_neg h c197
        refine lv_aload_n hx hb dJ27_getChars_164 rfl (lv_at hl 1 rfl) ?_
        obtain ⟨v198, ev198, h⟩ := lti_step h
        refine lv_iinc (v := v198) (lv' := [(7, .int v198), (3, .ref x2), (8, .int (bI v2)), (10, .int w168.2.2)]) hx hb dJ27_getChars_165 hl (k := 0) rfl (by rw [ev198]; rfl) (by decide) rfl (fun ls hl => ?_)
        refine lv_iload hx hb dJ27_getChars_168 (lv_at hl 0 rfl) ?_
        refine r_gets hx hb hts hown hS 17 rfl q1023 dJ27_getChars_170 ?_
        refine lv_iload hx hb dJ27_getChars_173 (lv_at hl 3 rfl) ?_
        obtain ⟨v199, ev199, h⟩ := lti_step h
        refine r_ineg hx hb ev199 dJ27_getChars_175 ?_
        obtain ⟨i200, xi200, h⟩ := gd_step (by decide) h
        refine r_bald hx hb hS (hS.1.RA hS.1.1.2.2.2.1.2.2.2.2.2.2.2.2.2.1) i200 xi200 dJ27_getChars_176 ?_
        obtain ⟨v201, ev201, h⟩ := lti_step h
        refine r_nmI ev201 ?_
        obtain ⟨i202, xi202, h⟩ := gd_step (nl0 l_x2) h
        obtain ⟨f203, ef203, h⟩ := lt_step h
        refine r_bast hx hb hS h_x2 hB_h_x2 i202 xi202 dJ27_getChars_177 (fun H locs hS hO h_x2 => ?_)
        have h_x2 : aB D x2 x2n f203 H := by rw [ef203]; exact h_x2
        have hF := hF.fresh hO (fun a ha z => z)
        exact HK192 f203 v198 h H locs hS hF h_x2 ls (lv_sub hl [1, 0, 2] rfl)
  clear eK3
  refine lv_if_ge (tgt := 13) hx hb dJ27_getChars_6 (by decide) (fun c204 => ?_) (fun c204 => ?_)
  · have h := it_pos h c204
    refine lv_iconst (v := 0) hx hb dJ27_getChars_13 (by decide) ?_
    exact HK3 false h H locs hS hF h_x2 ls (lv_sub hl [1, 3, 0] rfl)
  · have h := it_neg h c204
    refine lv_iconst (v := 1) hx hb dJ27_getChars_9 (by decide) ?_
    refine lv_goto (tgt := 14) hx hb dJ27_getChars_10 (by decide) ?_
    exact HK3 true h H locs hS hF h_x2 ls (lv_sub hl [1, 3, 0] rfl)

abbrev R_J25_canEncode_2 : Room := { frames := 0, cells := 0, slots := 0, locals := 0 }
noncomputable def f_J25_canEncode_2 (x0 : Int32) : Option (Bool) :=
  (if x0 < 0 then
    some false
  else
    (if 255 < x0 then
      some false
    else
      some true
    )
  )
theorem hd_J25_canEncode_2 : Hd yJ25_canEncode_2 1 := by unfold Hd; decide +kernel
set_option maxHeartbeats 4000000 in
set_option maxRecDepth 100000 in
theorem m_J25_canEncode_2 {l : Launch} {D : DD}   (x0 : Int32) (r : Bool) (h : f_J25_canEncode_2 x0 = some r) : MP l D yJ25_canEncode_2 cJ25_canEncode_2 1 (some .boolean) 0 0 [.int x0] NoPre (some (.int (bI r))) := by
  refine MP.start (by decide +kernel) (Nat.le_of_ble_eq_true rfl) ?_
  intro p e s m below meth c ls hC hS hp hl
  obtain ⟨hx, hb, hr, hlk, hml, hown, hts, hnm⟩ := id hC
  have hl : lv_has ls 1 [(0, .int x0)] := hl
  unfold f_J25_canEncode_2 at h
  have hS0 := hS
  obtain ⟨A, eA⟩ : ∃ A : Array Value, A = [.int x0].toArray := ⟨_, rfl⟩
  rw [← eA] at hC hts ⊢
  obtain ⟨Q, eQ⟩ : ∃ Q : State → Prop, Q = MQ below (PQ (some (.int (bI r)))) A s 0 0 (fun _ => False) := ⟨_, rfl⟩
  show W p l e R_J25_canEncode_2 s m A below meth c s.heap [] 0 0 _ _
  rw [← eQ]
  refine lv_iload_n hx hb dJ25_canEncode_2_0 rfl (lv_at hl 0 rfl) ?_
  refine lv_if_lt (tgt := 15) hx hb dJ25_canEncode_2_1 (by decide) (fun c1 => ?_) (fun c1 => ?_)
  · have h := it_pos h c1
    refine lv_iconst (v := 0) hx hb dJ25_canEncode_2_15 (by decide) ?_
    obtain rfl := Option.some.inj h
    rw [eQ]
    exact p_zret hx hb hr hlk (by decide) dJ25_canEncode_2_16 rfl
  · have h := it_neg h c1
    refine lv_iload_n hx hb dJ25_canEncode_2_4 rfl (lv_at hl 0 rfl) ?_
    refine lv_sipush (v := 255) hx hb dJ25_canEncode_2_5 (by decide) ?_
    refine lv_icmp_gt (tgt := 15) hx hb dJ25_canEncode_2_8 (by decide) (fun c2 => ?_) (fun c2 => ?_)
    · have h := it_pos h c2
      refine lv_iconst (v := 0) hx hb dJ25_canEncode_2_15 (by decide) ?_
      obtain rfl := Option.some.inj h
      rw [eQ]
      exact p_zret hx hb hr hlk (by decide) dJ25_canEncode_2_16 rfl
    · have h := it_neg h c2
      refine lv_iconst (v := 1) hx hb dJ25_canEncode_2_11 (by decide) ?_
      refine lv_goto (tgt := 16) hx hb dJ25_canEncode_2_12 (by decide) ?_
      obtain rfl := Option.some.inj h
      rw [eQ]
      exact p_zret hx hb hr hlk (by decide) dJ25_canEncode_2_16 rfl

abbrev R_J25_canEncode : Room := { frames := 0, cells := 0, slots := 0, locals := 0 }
noncomputable def f_J25_canEncode (x0 : Int32) : Option (Bool) :=
  (if 255 < x0 then
    some false
  else
    some true
  )
theorem hd_J25_canEncode : Hd yJ25_canEncode 1 := by unfold Hd; decide +kernel
set_option maxHeartbeats 4000000 in
set_option maxRecDepth 100000 in
theorem m_J25_canEncode {l : Launch} {D : DD}   (x0 : Int32) (r : Bool) (h : f_J25_canEncode x0 = some r) : MP l D yJ25_canEncode cJ25_canEncode 1 (some .boolean) 0 0 [.int x0] NoPre (some (.int (bI r))) := by
  refine MP.start (by decide +kernel) (Nat.le_of_ble_eq_true rfl) ?_
  intro p e s m below meth c ls hC hS hp hl
  obtain ⟨hx, hb, hr, hlk, hml, hown, hts, hnm⟩ := id hC
  have hl : lv_has ls 1 [(0, .int x0)] := hl
  unfold f_J25_canEncode at h
  have hS0 := hS
  obtain ⟨A, eA⟩ : ∃ A : Array Value, A = [.int x0].toArray := ⟨_, rfl⟩
  rw [← eA] at hC hts ⊢
  obtain ⟨Q, eQ⟩ : ∃ Q : State → Prop, Q = MQ below (PQ (some (.int (bI r)))) A s 0 0 (fun _ => False) := ⟨_, rfl⟩
  show W p l e R_J25_canEncode s m A below meth c s.heap [] 0 0 _ _
  rw [← eQ]
  refine lv_iload_n hx hb dJ25_canEncode_0 rfl (lv_at hl 0 rfl) ?_
  refine lv_sipush (v := 255) hx hb dJ25_canEncode_1 (by decide) ?_
  refine lv_icmp_gt (tgt := 11) hx hb dJ25_canEncode_4 (by decide) (fun c1 => ?_) (fun c1 => ?_)
  · have h := it_pos h c1
    refine lv_iconst (v := 0) hx hb dJ25_canEncode_11 (by decide) ?_
    obtain rfl := Option.some.inj h
    rw [eQ]
    exact p_zret hx hb hr hlk (by decide) dJ25_canEncode_12 rfl
  · have h := it_neg h c1
    refine lv_iconst (v := 1) hx hb dJ25_canEncode_7 (by decide) ?_
    refine lv_goto (tgt := 12) hx hb dJ25_canEncode_8 (by decide) ?_
    obtain rfl := Option.some.inj h
    rw [eQ]
    exact p_zret hx hb hr hlk (by decide) dJ25_canEncode_12 rfl

abbrev R_J21_init : Room := { frames := 1, cells := 1, slots := 40, locals := 20 }
noncomputable def f_J21_init (x1 : Int32) : Option (Nat × (Nat → Int32)) :=
  gl 40 x1 fun n3 =>
  some (n3, (fun _ => 0))
theorem hd_J21_init : Hd yJ21_init 1 := by unfold Hd; decide +kernel
set_option maxHeartbeats 4000000 in
set_option maxRecDepth 100000 in
theorem m_J21_init {l : Launch} {D : DD} (x0 : Nat)  (x1 : Int32) (r : Nat × (Nat → Int32)) (h : f_J21_init x1 = some r) : MT l D yJ21_init cJ21_init 2 none 1 20 1 40 [.ref x0, .int x1] (fun H => ON D 4 x0 [.null, .int 0, .int 0, .int 0] H ∧ dB D ≤ x0) (pV (fun H H' => ∃ mx0_0 : Nat, ON D 4 x0 [.ref mx0_0, .int 0, .int 0, .int 0] H' ∧ aB D mx0_0 r.1 r.2 H' ∧ r.1 ≤ 1000000 ∧ H.size ≤ mx0_0 ∧ Off (fun a => a = x0) H H')) := by
  refine MT.start (by decide +kernel) (Nat.le_of_ble_eq_true rfl) ?_
  intro p e s m below meth c ls hC hS hp hl
  obtain ⟨h_x0, hB_h_x0⟩ := hp
  obtain ⟨hx, hb, hr, hlk, hml, hown, hts, hnm⟩ := id hC
  have hl : lv_has ls 2 [(0, .ref x0), (1, .int x1)] := hl
  unfold f_J21_init at h
  have hS0 := hS
  obtain ⟨A, eA⟩ : ∃ A : Array Value, A = [.ref x0, .int x1].toArray := ⟨_, rfl⟩
  rw [← eA] at hC hts ⊢
  obtain ⟨Q, eQ⟩ : ∃ Q : State → Prop, Q = MQ below (TQ D (pV (fun H H' => ∃ mx0_0 : Nat, ON D 4 x0 [.ref mx0_0, .int 0, .int 0, .int 0] H' ∧ aB D mx0_0 r.1 r.2 H' ∧ r.1 ≤ 1000000 ∧ H.size ≤ mx0_0 ∧ Off (fun a => a = x0) H H'))) A s 1 40 (fun q => dB D ≤ q) := ⟨_, rfl⟩
  have hF : Off (fun a => a = x0) s.heap s.heap := Off.rf
  show W p l e R_J21_init s m A below meth c s.heap [] 0 0 _ _
  rw [← eQ]
  obtain ⟨H, eH⟩ : ∃ H : Heap, H = s.heap := ⟨_, rfl⟩
  obtain ⟨locs, eLc⟩ : ∃ L : List Loc, L = [] := ⟨_, rfl⟩
  have lt_h_x0 := h_x0.lt
  rw [← eH, ← eLc]
  have hF : Off (fun a => a = x0) s.heap H := by rw [eH]; exact hF
  rw [← eH] at h_x0
  have hS : St D s H locs := by rw [eH, eLc]; exact hS
  refine lv_aload_n hx hb dJ21_init_0 rfl (lv_at hl 0 rfl) ?_
  refine r_oinit hC q542 q95 q96 hl.1 dJ21_init_1 ⟨Nat.le_of_ble_eq_true rfl, Nat.le_of_ble_eq_true rfl⟩ ?_
  refine r_gets hx hb hts hown hS 13 rfl q543 dJ21_init_4 ?_
  refine lv_if_eq (tgt := 25) hx hb dJ21_init_7 (by decide) (fun c1 => ?_) (fun c1 => ?_)
  · exact absurd c1 (by decide)
  refine lv_aload_n hx hb dJ21_init_10 rfl (lv_at hl 0 rfl) ?_
  refine lv_iload_n hx hb dJ21_init_11 rfl (lv_at hl 1 rfl) ?_
  obtain ⟨n3, xn3, h⟩ := gl_step (by decide) h
  refine r_newaB hx hb hts hS (ty := .byte) rfl q152 40 n3 xn3 (by decide) (by decide) (Nat.le_of_ble_eq_true rfl) (Nat.le_of_ble_eq_true rfl) dJ21_init_12 (fun ad2 H eq_ad2 hS hE had2 z_ad2 hB_had2 => ?_)
  have had2 : aB D ad2 n3 (fun _ => 0) H := had2
  have gad2 : s.heap.size ≤ ad2 := by have := hF.1; omega
  have ne_h_x0_had2 : x0 ≠ ad2 := by have := h_x0.lt; omega
  have h_x0 := h_x0.ext hE
  have hF := hF.trans (hE.mono (fun _ _ z => z.elim))
  refine r_put hx hb hts hown hS h_x0 hB_h_x0 rfl in_J22 tyJ22 tyJ22_ok nmJ22 0 (Nat.le_of_ble_eq_true rfl) rfl q552 rfl rfl (v := .ref ad2) rfl (by rfl) dJ21_init_14 (fun H locs hS hO h_x0 => ?_)
  have h_x0 : ON D 4 x0 [.ref ad2, .int 0, .int 0, .int 0] H := h_x0
  have had2 := had2.off hO (Ne.symm ne_h_x0_had2)
  have hF := hF.fresh hO (fun a ha z => z)
  refine lv_aload_n hx hb dJ21_init_17 rfl (lv_at hl 0 rfl) ?_
  refine lv_iconst (v := 0) hx hb dJ21_init_18 (by decide) ?_
  refine r_put hx hb hts hown hS h_x0 hB_h_x0 rfl in_J22 tyJ22 tyJ22_ok nmJ22 1 (Nat.le_of_ble_eq_true rfl) rfl q553 rfl rfl (v := .int 0) (by decide) (by rfl) dJ21_init_19 (fun H locs hS hO h_x0 => ?_)
  have h_x0 : ON D 4 x0 [.ref ad2, .int 0, .int 0, .int 0] H := h_x0
  have had2 := had2.off hO (Ne.symm ne_h_x0_had2)
  have hF := hF.fresh hO (fun a ha z => z)
  refine lv_goto (tgt := 38) hx hb dJ21_init_22 (by decide) ?_
  obtain rfl := Option.some.inj h
  rw [eQ]
  exact r_vret hx hb hr hlk hS (Nat.le_of_ble_eq_true rfl) (Nat.le_of_ble_eq_true rfl) dJ21_init_38 ⟨rfl, ad2, h_x0, had2, (le_of_gl xn3 (by decide)), gad2, hF⟩

abbrev R_J22_init : Room := { frames := 2, cells := 1, slots := 40, locals := 41 }
noncomputable def f_J22_init (_u : Unit) : Option (Nat × (Nat → Int32)) :=
  Option.bind (f_J21_init 16) fun o1 =>
  some (o1.1, o1.2)
theorem hd_J22_init : Hd yJ22_init 0 := by unfold Hd; decide +kernel
set_option maxHeartbeats 4000000 in
set_option maxRecDepth 100000 in
theorem m_J22_init {l : Launch} {D : DD} (x0 : Nat)   (r : Nat × (Nat → Int32)) (h : f_J22_init () = some r) : MT l D yJ22_init cJ22_init 1 none 2 41 1 40 [.ref x0] (fun H => ON D 4 x0 [.null, .int 0, .int 0, .int 0] H ∧ dB D ≤ x0) (pV (fun H H' => ∃ mx0_0 : Nat, ON D 4 x0 [.ref mx0_0, .int 0, .int 0, .int 0] H' ∧ aB D mx0_0 r.1 r.2 H' ∧ r.1 ≤ 1000000 ∧ H.size ≤ mx0_0 ∧ Off (fun a => a = x0) H H')) := by
  refine MT.start (by decide +kernel) (Nat.le_of_ble_eq_true rfl) ?_
  intro p e s m below meth c ls hC hS hp hl
  obtain ⟨h_x0, hB_h_x0⟩ := hp
  obtain ⟨hx, hb, hr, hlk, hml, hown, hts, hnm⟩ := id hC
  have hl : lv_has ls 1 [(0, .ref x0)] := hl
  unfold f_J22_init at h
  have hS0 := hS
  obtain ⟨A, eA⟩ : ∃ A : Array Value, A = [.ref x0].toArray := ⟨_, rfl⟩
  rw [← eA] at hC hts ⊢
  obtain ⟨Q, eQ⟩ : ∃ Q : State → Prop, Q = MQ below (TQ D (pV (fun H H' => ∃ mx0_0 : Nat, ON D 4 x0 [.ref mx0_0, .int 0, .int 0, .int 0] H' ∧ aB D mx0_0 r.1 r.2 H' ∧ r.1 ≤ 1000000 ∧ H.size ≤ mx0_0 ∧ Off (fun a => a = x0) H H'))) A s 1 40 (fun q => dB D ≤ q) := ⟨_, rfl⟩
  have hF : Off (fun a => a = x0) s.heap s.heap := Off.rf
  show W p l e R_J22_init s m A below meth c s.heap [] 0 0 _ _
  rw [← eQ]
  obtain ⟨H, eH⟩ : ∃ H : Heap, H = s.heap := ⟨_, rfl⟩
  obtain ⟨locs, eLc⟩ : ∃ L : List Loc, L = [] := ⟨_, rfl⟩
  have lt_h_x0 := h_x0.lt
  rw [← eH, ← eLc]
  have hF : Off (fun a => a = x0) s.heap H := by rw [eH]; exact hF
  rw [← eH] at h_x0
  have hS : St D s H locs := by rw [eH, eLc]; exact hS
  refine lv_aload_n hx hb dJ22_init_0 rfl (lv_at hl 0 rfl) ?_
  refine lv_bipush (v := 16) hx hb dJ22_init_1 (by decide) ?_
  obtain ⟨o1, eo1, h⟩ := bind_step h
  have ltp_h_x0 := h_x0.lt
  refine r_cv (r_runI (rest := []) (As := [.int 16]) hC 1 (m_J21_init x0  16 o1 eo1) q539 q540 q63 q541 rfl hd_J21_init rfl ⟨Nat.le_of_ble_eq_true rfl, Nat.le_of_ble_eq_true rfl⟩ hS ⟨h_x0, hB_h_x0⟩ hl.1 rfl (Nat.le_of_ble_eq_true rfl) dJ22_init_3 ⟨Nat.le_of_ble_eq_true rfl, Nat.le_of_ble_eq_true rfl⟩) hS (fun H locs hp hS hz => ?_)
  obtain ⟨ad2, h_x0, had2, lo1_1, frad2, hO⟩ := hp
  have ne_h_x0_had2 : x0 ≠ ad2 := Nat.ne_of_lt (Nat.lt_of_lt_of_le ltp_h_x0 frad2)
  have gad2 : s.heap.size ≤ ad2 := Nat.le_trans hF.1 frad2
  have hB_had2 : dB D ≤ ad2 := by have := hS0.1.2.2.1; omega
  have hF := hF.fresh hO (fun a ha z => z)
  obtain rfl := Option.some.inj h
  rw [eQ]
  exact r_vret hx hb hr hlk hS (Nat.le_of_ble_eq_true rfl) (Nat.le_of_ble_eq_true rfl) dJ22_init_6 ⟨rfl, ad2, h_x0, had2, lo1_1, gad2, hF⟩

abbrev R_J21_isLatin1 : Room := { frames := 0, cells := 0, slots := 0, locals := 0 }
noncomputable def f_J21_isLatin1 (x0r0n : Nat) (x0r0c : Nat → Int32) (x0f3 : Int32) : Option (Bool) :=
  some true
theorem hd_J21_isLatin1 : Hd yJ21_isLatin1 0 := by unfold Hd; decide +kernel
set_option maxHeartbeats 4000000 in
set_option maxRecDepth 100000 in
theorem m_J21_isLatin1 {l : Launch} {D : DD} (x0 : Nat) (x0r0 : Nat)  (x0r0n : Nat) (x0r0c : Nat → Int32) (x0f3 : Int32) (r : Bool) (h : f_J21_isLatin1 x0r0n x0r0c x0f3 = some r) : MP l D yJ21_isLatin1 cJ21_isLatin1 1 (some .boolean) 0 0 [.ref x0] (fun H => ON D 4 x0 [.ref x0r0, .int 0, .int 0, .int x0f3] H ∧ aB D x0r0 x0r0n x0r0c H ∧ x0r0n ≤ 1000000) (some (.int (bI r))) := by
  refine MP.start (by decide +kernel) (Nat.le_of_ble_eq_true rfl) ?_
  intro p e s m below meth c ls hC hS hp hl
  obtain ⟨h_x0, h_x0r0, l_x0r0⟩ := hp
  obtain ⟨hx, hb, hr, hlk, hml, hown, hts, hnm⟩ := id hC
  have hl : lv_has ls 1 [(0, .ref x0)] := hl
  unfold f_J21_isLatin1 at h
  have hS0 := hS
  obtain ⟨A, eA⟩ : ∃ A : Array Value, A = [.ref x0].toArray := ⟨_, rfl⟩
  rw [← eA] at hC hts ⊢
  obtain ⟨Q, eQ⟩ : ∃ Q : State → Prop, Q = MQ below (PQ (some (.int (bI r)))) A s 0 0 (fun _ => False) := ⟨_, rfl⟩
  show W p l e R_J21_isLatin1 s m A below meth c s.heap [] 0 0 _ _
  rw [← eQ]
  refine r_gets hx hb hts hown hS 13 rfl q543 dJ21_isLatin1_0 ?_
  refine lv_if_eq (tgt := 17) hx hb dJ21_isLatin1_3 (by decide) (fun c1 => ?_) (fun c1 => ?_)
  · exact absurd c1 (by decide)
  refine lv_aload_n hx hb dJ21_isLatin1_6 rfl (lv_at hl 0 rfl) ?_
  refine r_get hx hb hts hown hS h_x0.OA rfl in_J22 1 (by decide) q553 rfl (v := .int 0) rfl dJ21_isLatin1_7 ?_
  refine lv_if_ne (tgt := 17) hx hb dJ21_isLatin1_10 (by decide) (fun c2 => ?_) (fun c2 => ?_)
  · exact absurd c2 (by decide)
  refine lv_iconst (v := 1) hx hb dJ21_isLatin1_13 (by decide) ?_
  refine lv_goto (tgt := 18) hx hb dJ21_isLatin1_14 (by decide) ?_
  obtain rfl := Option.some.inj h
  rw [eQ]
  exact p_zret hx hb hr hlk (by decide) dJ21_isLatin1_18 rfl

abbrev R_J24_newLength : Room := { frames := 1, cells := 0, slots := 0, locals := 21 }
noncomputable def f_J24_newLength (x0 : Int32) (x1 : Int32) (x2 : Int32) : Option (Int32) :=
  Option.bind (f_J12_max x1 x2) fun o1 =>
  lti (x0 + o1) fun v2 =>
  (if v2 ≤ 0 then
    none
  else
    (if 2147483639 < v2 then
      none
    else
      some v2
    )
  )
theorem hd_J24_newLength : Hd yJ24_newLength 3 := by unfold Hd; decide +kernel
set_option maxHeartbeats 4000000 in
set_option maxRecDepth 100000 in
theorem m_J24_newLength {l : Launch} {D : DD}   (x0 : Int32) (x1 : Int32) (x2 : Int32) (r : Int32) (h : f_J24_newLength x0 x1 x2 = some r) : MP l D yJ24_newLength cJ24_newLength 4 (some .int) 1 21 [.int x0, .int x1, .int x2] NoPre (some (.int r)) := by
  refine MP.start (by decide +kernel) (Nat.le_of_ble_eq_true rfl) ?_
  intro p e s m below meth c ls hC hS hp hl
  obtain ⟨hx, hb, hr, hlk, hml, hown, hts, hnm⟩ := id hC
  have hl : lv_has ls 4 [(0, .int x0), (1, .int x1), (2, .int x2)] := hl
  unfold f_J24_newLength at h
  have hS0 := hS
  obtain ⟨A, eA⟩ : ∃ A : Array Value, A = [.int x0, .int x1, .int x2].toArray := ⟨_, rfl⟩
  rw [← eA] at hC hts ⊢
  obtain ⟨Q, eQ⟩ : ∃ Q : State → Prop, Q = MQ below (PQ (some (.int r))) A s 0 0 (fun _ => False) := ⟨_, rfl⟩
  show W p l e R_J24_newLength s m A below meth c s.heap [] 0 0 _ _
  rw [← eQ]
  refine lv_iload_n hx hb dJ24_newLength_0 rfl (lv_at hl 0 rfl) ?_
  refine lv_iload_n hx hb dJ24_newLength_1 rfl (lv_at hl 1 rfl) ?_
  refine lv_iload_n hx hb dJ24_newLength_2 rfl (lv_at hl 2 rfl) ?_
  obtain ⟨o1, eo1, h⟩ := bind_step h
  refine r_cp (r_runS (rest := [.int x0]) (As := [.int x1, .int x2]) hC 2 (m_J12_max x1 x2  o1 eo1) q588 q254 q53 q255 hd_J12_max rfl ⟨Nat.le_of_ble_eq_true rfl, Nat.le_of_ble_eq_true rfl⟩ hS trivial hl.1 rfl (Nat.le_of_ble_eq_true rfl) dJ24_newLength_3 ⟨Nat.le_of_ble_eq_true rfl, Nat.le_of_ble_eq_true rfl⟩) ?_
  obtain ⟨v2, ev2, h⟩ := lti_step h
  refine r_iadd hx hb ev2 dJ24_newLength_6 ?_
  refine lv_istore_n (lv' := [(3, .int v2), (0, .int x0), (1, .int x1), (2, .int x2)]) hx hb dJ24_newLength_7 rfl hl (by decide) rfl (fun ls hl => ?_)
  refine lv_iconst (v := 0) hx hb dJ24_newLength_8 (by decide) ?_
  refine lv_iload_n hx hb dJ24_newLength_9 rfl (lv_at hl 0 rfl) ?_
  refine lv_icmp_ge (tgt := 21) hx hb dJ24_newLength_10 (by decide) (fun c3 => ?_) (fun c3 => ?_)
  · have h := it_pos h c3
    cases h
  · have h := it_neg h c3
    refine lv_iload_n hx hb dJ24_newLength_13 rfl (lv_at hl 0 rfl) ?_
    refine lv_ldc hx hb (v := 2147483639) hown (hts _ q589) dJ24_newLength_14 ?_
    refine lv_icmp_gt (tgt := 21) hx hb dJ24_newLength_16 (by decide) (fun c4 => ?_) (fun c4 => ?_)
    · have h := it_pos h c4
      cases h
    · have h := it_neg h c4
      refine lv_iload_n hx hb dJ24_newLength_19 rfl (lv_at hl 0 rfl) ?_
      obtain rfl := Option.some.inj h
      rw [eQ]
      exact p_iret hx hb hr hlk dJ24_newLength_20 rfl

abbrev R_J21_newCapacity : Room := { frames := 2, cells := 0, slots := 0, locals := 44 }
noncomputable def f_J21_newCapacity (x0r0n : Nat) (x0r0c : Nat → Int32) (x0f3 : Int32) (x1 : Int32) : Option (Int32) :=
  lti (x1 <<< (0 &&& 31)) fun v1 =>
  lti (v1 - (nI x0r0n)) fun v2 =>
  lti ((2 : Int32) <<< (0 &&& 31)) fun v3 =>
  lti ((nI x0r0n) + v3) fun v4 =>
  Option.bind (f_J24_newLength (nI x0r0n) v2 v4) fun o5 =>
  (if o5 = 2147483647 then
    none
  else
    lti (o5 >>> (0 &&& 31)) fun v7 =>
    some v7
  )
theorem hd_J21_newCapacity : Hd yJ21_newCapacity 1 := by unfold Hd; decide +kernel
set_option maxHeartbeats 4000000 in
set_option maxRecDepth 100000 in
theorem m_J21_newCapacity {l : Launch} {D : DD} (x0 : Nat) (x0r0 : Nat)  (x0r0n : Nat) (x0r0c : Nat → Int32) (x0f3 : Int32) (x1 : Int32) (r : Int32) (h : f_J21_newCapacity x0r0n x0r0c x0f3 x1 = some r) : MP l D yJ21_newCapacity cJ21_newCapacity 6 (some .int) 2 44 [.ref x0, .int x1] (fun H => ON D 4 x0 [.ref x0r0, .int 0, .int 0, .int x0f3] H ∧ aB D x0r0 x0r0n x0r0c H ∧ x0r0n ≤ 1000000) (some (.int r)) := by
  refine MP.start (by decide +kernel) (Nat.le_of_ble_eq_true rfl) ?_
  intro p e s m below meth c ls hC hS hp hl
  obtain ⟨h_x0, h_x0r0, l_x0r0⟩ := hp
  obtain ⟨hx, hb, hr, hlk, hml, hown, hts, hnm⟩ := id hC
  have hl : lv_has ls 6 [(0, .ref x0), (1, .int x1)] := hl
  unfold f_J21_newCapacity at h
  have hS0 := hS
  obtain ⟨A, eA⟩ : ∃ A : Array Value, A = [.ref x0, .int x1].toArray := ⟨_, rfl⟩
  rw [← eA] at hC hts ⊢
  obtain ⟨Q, eQ⟩ : ∃ Q : State → Prop, Q = MQ below (PQ (some (.int r))) A s 0 0 (fun _ => False) := ⟨_, rfl⟩
  show W p l e R_J21_newCapacity s m A below meth c s.heap [] 0 0 _ _
  rw [← eQ]
  refine lv_aload_n hx hb dJ21_newCapacity_0 rfl (lv_at hl 0 rfl) ?_
  refine r_get hx hb hts hown hS h_x0.OA rfl in_J22 0 (by decide) q552 rfl (v := .ref x0r0) rfl dJ21_newCapacity_1 ?_
  refine r_alen hx hb hS h_x0r0 dJ21_newCapacity_4 ?_
  refine lv_istore_n (lv' := [(2, .int (nI x0r0n)), (0, .ref x0), (1, .int x1)]) hx hb dJ21_newCapacity_5 rfl hl (by decide) rfl (fun ls hl => ?_)
  refine lv_iload_n hx hb dJ21_newCapacity_6 rfl (lv_at hl 2 rfl) ?_
  refine lv_aload_n hx hb dJ21_newCapacity_7 rfl (lv_at hl 1 rfl) ?_
  refine r_get hx hb hts hown hS h_x0.OA rfl in_J22 1 (by decide) q553 rfl (v := .int 0) rfl dJ21_newCapacity_8 ?_
  obtain ⟨v1, ev1, h⟩ := lti_step h
  refine r_ishl hx hb ev1 dJ21_newCapacity_11 ?_
  refine lv_istore_n (lv' := [(3, .int v1), (2, .int (nI x0r0n)), (0, .ref x0), (1, .int x1)]) hx hb dJ21_newCapacity_12 rfl hl (by decide) rfl (fun ls hl => ?_)
  refine lv_iload_n hx hb dJ21_newCapacity_13 rfl (lv_at hl 0 rfl) ?_
  refine lv_iload_n hx hb dJ21_newCapacity_14 rfl (lv_at hl 1 rfl) ?_
  obtain ⟨v2, ev2, h⟩ := lti_step h
  refine r_isub hx hb ev2 dJ21_newCapacity_15 ?_
  refine lv_istore (lv' := [(4, .int v2), (3, .int v1), (2, .int (nI x0r0n)), (0, .ref x0), (1, .int x1)]) hx hb dJ21_newCapacity_16 hl (by decide) rfl (fun ls hl => ?_)
  refine lv_iload_n hx hb dJ21_newCapacity_18 rfl (lv_at hl 2 rfl) ?_
  refine lv_iload hx hb dJ21_newCapacity_19 (lv_at hl 0 rfl) ?_
  refine lv_iload_n hx hb dJ21_newCapacity_21 rfl (lv_at hl 2 rfl) ?_
  refine lv_iconst (v := 2) hx hb dJ21_newCapacity_22 (by decide) ?_
  refine lv_aload_n hx hb dJ21_newCapacity_23 rfl (lv_at hl 3 rfl) ?_
  refine r_get hx hb hts hown hS h_x0.OA rfl in_J22 1 (by decide) q553 rfl (v := .int 0) rfl dJ21_newCapacity_24 ?_
  obtain ⟨v3, ev3, h⟩ := lti_step h
  refine r_ishl hx hb ev3 dJ21_newCapacity_27 ?_
  obtain ⟨v4, ev4, h⟩ := lti_step h
  refine r_iadd hx hb ev4 dJ21_newCapacity_28 ?_
  obtain ⟨o5, eo5, h⟩ := bind_step h
  refine r_cp (r_runS (rest := []) (As := [.int (nI x0r0n), .int v2, .int v4]) hC 3 (m_J24_newLength   (nI x0r0n) v2 v4 o5 eo5) q585 q586 q66 q587 hd_J24_newLength rfl ⟨Nat.le_of_ble_eq_true rfl, Nat.le_of_ble_eq_true rfl⟩ hS trivial hl.1 rfl (Nat.le_of_ble_eq_true rfl) dJ21_newCapacity_29 ⟨Nat.le_of_ble_eq_true rfl, Nat.le_of_ble_eq_true rfl⟩) ?_
  refine lv_istore (lv' := [(5, .int o5), (4, .int v2), (3, .int v1), (2, .int (nI x0r0n)), (0, .ref x0), (1, .int x1)]) hx hb dJ21_newCapacity_32 hl (by decide) rfl (fun ls hl => ?_)
  refine lv_iload hx hb dJ21_newCapacity_34 (lv_at hl 0 rfl) ?_
  refine lv_ldc hx hb (v := 2147483647) hown (hts _ q593) dJ21_newCapacity_36 ?_
  refine lv_icmp_ne (tgt := 51) hx hb dJ21_newCapacity_38 (by decide) (fun c6 => ?_) (fun c6 => ?_)
  · have h := it_neg h c6
    refine lv_iload hx hb dJ21_newCapacity_51 (lv_at hl 0 rfl) ?_
    refine lv_aload_n hx hb dJ21_newCapacity_53 rfl (lv_at hl 4 rfl) ?_
    refine r_get hx hb hts hown hS h_x0.OA rfl in_J22 1 (by decide) q553 rfl (v := .int 0) rfl dJ21_newCapacity_54 ?_
    obtain ⟨v7, ev7, h⟩ := lti_step h
    refine r_ishr hx hb ev7 dJ21_newCapacity_57 ?_
    obtain rfl := Option.some.inj h
    rw [eQ]
    exact p_iret hx hb hr hlk dJ21_newCapacity_58 rfl
  · have h := it_pos h c6
    cases h

abbrev R_J19_copyOf_2 : Room := { frames := 1, cells := 1, slots := 40, locals := 38 }
noncomputable def f_J19_copyOf_2 (x0n : Nat) (x0c : Nat → Int32) (x1 : Int32) : Option (Nat × (Nat → Int32)) :=
  (if x1 = (nI x0n) then
    none
  else
    gl 40 x1 fun n3 =>
    Option.bind (f_J12_min (nI x0n) x1) fun o4 =>
    gd (x0n + 1) 0 fun i5 =>
    gd (n3 + 1) 0 fun i6 =>
    gd (x0n + 1) o4 fun i7 =>
    ask (Nat.ble (i5 + i7) x0n && Nat.ble (i6 + i7) n3) <|
    lt (va_cpy x0c (fun _ => 0) i5 i6 i7) fun f9 =>
    ask (byBb x0n x0c) <|
    some (n3, f9)
  )
theorem hd_J19_copyOf_2 : Hd yJ19_copyOf_2 2 := by unfold Hd; decide +kernel
set_option maxHeartbeats 4000000 in
set_option maxRecDepth 100000 in
theorem m_J19_copyOf_2 {l : Launch} {D : DD} (x0 : Nat)  (x0n : Nat) (x0c : Nat → Int32) (x1 : Int32) (r : Nat × (Nat → Int32)) (h : f_J19_copyOf_2 x0n x0c x1 = some r) : MT l D yJ19_copyOf_2 cJ19_copyOf_2 3 (some (.array .byte)) 1 38 1 40 [.ref x0, .int x1] (fun H => aB D x0 x0n x0c H ∧ x0n ≤ 1000000) (pR (fun H b H' => aB D b r.1 r.2 H' ∧ r.1 ≤ 1000000 ∧ H.size ≤ b ∧ Off (fun _ => False) H H')) := by
  refine MT.start (by decide +kernel) (Nat.le_of_ble_eq_true rfl) ?_
  intro p e s m below meth c ls hC hS hp hl
  obtain ⟨h_x0, l_x0⟩ := hp
  obtain ⟨hx, hb, hr, hlk, hml, hown, hts, hnm⟩ := id hC
  have hl : lv_has ls 3 [(0, .ref x0), (1, .int x1)] := hl
  unfold f_J19_copyOf_2 at h
  have hS0 := hS
  obtain ⟨A, eA⟩ : ∃ A : Array Value, A = [.ref x0, .int x1].toArray := ⟨_, rfl⟩
  rw [← eA] at hC hts ⊢
  obtain ⟨Q, eQ⟩ : ∃ Q : State → Prop, Q = MQ below (TQ D (pR (fun H b H' => aB D b r.1 r.2 H' ∧ r.1 ≤ 1000000 ∧ H.size ≤ b ∧ Off (fun _ => False) H H'))) A s 1 40 (fun q => dB D ≤ q) := ⟨_, rfl⟩
  have hF : Off (fun _ => False) s.heap s.heap := Off.rf
  show W p l e R_J19_copyOf_2 s m A below meth c s.heap [] 0 0 _ _
  rw [← eQ]
  obtain ⟨H, eH⟩ : ∃ H : Heap, H = s.heap := ⟨_, rfl⟩
  obtain ⟨locs, eLc⟩ : ∃ L : List Loc, L = [] := ⟨_, rfl⟩
  have lt_h_x0 := h_x0.lt
  rw [← eH, ← eLc]
  have hF : Off (fun _ => False) s.heap H := by rw [eH]; exact hF
  rw [← eH] at h_x0
  have hS : St D s H locs := by rw [eH, eLc]; exact hS
  refine lv_iload_n hx hb dJ19_copyOf_2_0 rfl (lv_at hl 1 rfl) ?_
  refine lv_aload_n hx hb dJ19_copyOf_2_1 rfl (lv_at hl 0 rfl) ?_
  refine r_alen hx hb hS h_x0 dJ19_copyOf_2_2 ?_
  refine lv_icmp_ne (tgt := 14) hx hb dJ19_copyOf_2_3 (by decide) (fun c1 => ?_) (fun c1 => ?_)
  · have h := it_neg h c1
    refine lv_iload_n hx hb dJ19_copyOf_2_14 rfl (lv_at hl 1 rfl) ?_
    obtain ⟨n3, xn3, h⟩ := gl_step (by decide) h
    refine r_newaB hx hb hts hS (ty := .byte) rfl q152 40 n3 xn3 (by decide) (by decide) (Nat.le_of_ble_eq_true rfl) (Nat.le_of_ble_eq_true rfl) dJ19_copyOf_2_15 (fun ad2 H eq_ad2 hS hE had2 z_ad2 hB_had2 => ?_)
    have had2 : aB D ad2 n3 (fun _ => 0) H := had2
    have gad2 : s.heap.size ≤ ad2 := by have := hF.1; omega
    have ne_h_x0_had2 : x0 ≠ ad2 := by have := h_x0.lt; omega
    have h_x0 := h_x0.ext hE
    have hF := hF.trans (hE.mono (fun _ _ z => z.elim))
    refine lv_astore_n (lv' := [(2, .ref ad2), (0, .ref x0), (1, .int x1)]) hx hb dJ19_copyOf_2_17 rfl hl (by decide) rfl (fun ls hl => ?_)
    refine lv_aload_n hx hb dJ19_copyOf_2_18 rfl (lv_at hl 1 rfl) ?_
    refine lv_iconst (v := 0) hx hb dJ19_copyOf_2_19 (by decide) ?_
    refine lv_aload_n hx hb dJ19_copyOf_2_20 rfl (lv_at hl 0 rfl) ?_
    refine lv_iconst (v := 0) hx hb dJ19_copyOf_2_21 (by decide) ?_
    refine lv_aload_n hx hb dJ19_copyOf_2_22 rfl (lv_at hl 1 rfl) ?_
    refine r_alen hx hb hS h_x0 dJ19_copyOf_2_23 ?_
    refine lv_iload_n hx hb dJ19_copyOf_2_24 rfl (lv_at hl 2 rfl) ?_
    obtain ⟨o4, eo4, h⟩ := bind_step h
    refine r_cp (r_runS (rest := [.int 0, .ref ad2, .int 0, .ref x0]) (As := [.int (nI x0n), .int x1]) hC 2 (m_J12_min (nI x0n) x1  o4 eo4) q498 q259 q53 q260 hd_J12_min rfl ⟨Nat.le_of_ble_eq_true rfl, Nat.le_of_ble_eq_true rfl⟩ hS trivial hl.1 rfl (Nat.le_of_ble_eq_true rfl) dJ19_copyOf_2_25 ⟨Nat.le_of_ble_eq_true rfl, Nat.le_of_ble_eq_true rfl⟩) ?_
    obtain ⟨i5, xi5, h⟩ := gd_step (nl1 l_x0) h
    obtain ⟨i6, xi6, h⟩ := gd_step (nl1 (le_of_gl xn3 (by decide))) h
    obtain ⟨i7, xi7, h⟩ := gd_step (nl1 l_x0) h
    obtain ⟨b8, h⟩ := ask_step h
    rw [Bool.and_eq_true] at b8
    obtain ⟨f9, ef9, h⟩ := lt_step h
    obtain ⟨b10, h⟩ := ask_step h
    refine r_copyB hC hS h_x0 had2 hB_had2 (byBb_ok b10) xi5 xi6 xi7 (Nat.le_of_ble_eq_true b8.1) (Nat.le_of_ble_eq_true b8.2) q499 q463 q462 q58 hl.1 ⟨Nat.le_of_ble_eq_true rfl, Nat.le_of_ble_eq_true rfl⟩ dJ19_copyOf_2_28 (fun H locs hS hO had2 => ?_)
    have had2 : aB D ad2 n3 f9 H := by rw [ef9]; exact had2
    have h_x0 := h_x0.off hO ne_h_x0_had2
    have hF := hF.fresh hO (fun a ha z => absurd (z ▸ ha) (Nat.not_lt.mpr gad2))
    refine lv_aload_n hx hb dJ19_copyOf_2_31 rfl (lv_at hl 0 rfl) ?_
    obtain rfl := Option.some.inj h
    rw [eQ]
    exact r_aret hx hb hr (Or.inr ⟨_, rfl⟩) hlk hS (Nat.le_of_ble_eq_true rfl) (Nat.le_of_ble_eq_true rfl) dJ19_copyOf_2_32 ⟨_, rfl, had2, (le_of_gl xn3 (by decide)), gad2, hF⟩
  · have h := it_pos h c1
    cases h

abbrev R_J19_copyOfRangeByte : Room := { frames := 1, cells := 1, slots := 40, locals := 38 }
noncomputable def f_J19_copyOfRangeByte (x0n : Nat) (x0c : Nat → Int32) (x1 : Int32) (x2 : Int32) : Option (Nat × (Nat → Int32)) :=
  Option.bind (f_J19_checkLength x1 x2) fun o1 =>
  lti (x2 - x1) fun v2 =>
  gl 40 v2 fun n4 =>
  lti ((nI x0n) - x1) fun v5 =>
  Option.bind (f_J12_min v5 v2) fun o6 =>
  gd (x0n + 1) x1 fun i7 =>
  gd (n4 + 1) 0 fun i8 =>
  gd (x0n + 1) o6 fun i9 =>
  ask (Nat.ble (i7 + i9) x0n && Nat.ble (i8 + i9) n4) <|
  lt (va_cpy x0c (fun _ => 0) i7 i8 i9) fun f11 =>
  ask (byBb x0n x0c) <|
  some (n4, f11)
theorem hd_J19_copyOfRangeByte : Hd yJ19_copyOfRangeByte 3 := by unfold Hd; decide +kernel
set_option maxHeartbeats 4000000 in
set_option maxRecDepth 100000 in
theorem m_J19_copyOfRangeByte {l : Launch} {D : DD} (x0 : Nat)  (x0n : Nat) (x0c : Nat → Int32) (x1 : Int32) (x2 : Int32) (r : Nat × (Nat → Int32)) (h : f_J19_copyOfRangeByte x0n x0c x1 x2 = some r) : MT l D yJ19_copyOfRangeByte cJ19_copyOfRangeByte 5 (some (.array .byte)) 1 38 1 40 [.ref x0, .int x1, .int x2] (fun H => aB D x0 x0n x0c H ∧ x0n ≤ 1000000) (pR (fun H b H' => aB D b r.1 r.2 H' ∧ r.1 ≤ 1000000 ∧ H.size ≤ b ∧ Off (fun _ => False) H H')) := by
  refine MT.start (by decide +kernel) (Nat.le_of_ble_eq_true rfl) ?_
  intro p e s m below meth c ls hC hS hp hl
  obtain ⟨h_x0, l_x0⟩ := hp
  obtain ⟨hx, hb, hr, hlk, hml, hown, hts, hnm⟩ := id hC
  have hl : lv_has ls 5 [(0, .ref x0), (1, .int x1), (2, .int x2)] := hl
  unfold f_J19_copyOfRangeByte at h
  have hS0 := hS
  obtain ⟨A, eA⟩ : ∃ A : Array Value, A = [.ref x0, .int x1, .int x2].toArray := ⟨_, rfl⟩
  rw [← eA] at hC hts ⊢
  obtain ⟨Q, eQ⟩ : ∃ Q : State → Prop, Q = MQ below (TQ D (pR (fun H b H' => aB D b r.1 r.2 H' ∧ r.1 ≤ 1000000 ∧ H.size ≤ b ∧ Off (fun _ => False) H H'))) A s 1 40 (fun q => dB D ≤ q) := ⟨_, rfl⟩
  have hF : Off (fun _ => False) s.heap s.heap := Off.rf
  show W p l e R_J19_copyOfRangeByte s m A below meth c s.heap [] 0 0 _ _
  rw [← eQ]
  obtain ⟨H, eH⟩ : ∃ H : Heap, H = s.heap := ⟨_, rfl⟩
  obtain ⟨locs, eLc⟩ : ∃ L : List Loc, L = [] := ⟨_, rfl⟩
  have lt_h_x0 := h_x0.lt
  rw [← eH, ← eLc]
  have hF : Off (fun _ => False) s.heap H := by rw [eH]; exact hF
  rw [← eH] at h_x0
  have hS : St D s H locs := by rw [eH, eLc]; exact hS
  refine lv_iload_n hx hb dJ19_copyOfRangeByte_0 rfl (lv_at hl 1 rfl) ?_
  refine lv_iload_n hx hb dJ19_copyOfRangeByte_1 rfl (lv_at hl 2 rfl) ?_
  obtain ⟨o1, eo1, h⟩ := bind_step h
  refine r_cpv (r_runS (rest := []) (As := [.int x1, .int x2]) hC 2 (m_J19_checkLength   x1 x2 o1 eo1) q731 q732 q61 q733 hd_J19_checkLength rfl ⟨Nat.le_of_ble_eq_true rfl, Nat.le_of_ble_eq_true rfl⟩ hS trivial hl.1 rfl (Nat.le_of_ble_eq_true rfl) dJ19_copyOfRangeByte_2 ⟨Nat.le_of_ble_eq_true rfl, Nat.le_of_ble_eq_true rfl⟩) ?_
  refine lv_iload_n hx hb dJ19_copyOfRangeByte_5 rfl (lv_at hl 2 rfl) ?_
  refine lv_iload_n hx hb dJ19_copyOfRangeByte_6 rfl (lv_at hl 1 rfl) ?_
  obtain ⟨v2, ev2, h⟩ := lti_step h
  refine r_isub hx hb ev2 dJ19_copyOfRangeByte_7 ?_
  refine lv_istore_n (lv' := [(3, .int v2), (0, .ref x0), (1, .int x1), (2, .int x2)]) hx hb dJ19_copyOfRangeByte_8 rfl hl (by decide) rfl (fun ls hl => ?_)
  refine lv_iload_n hx hb dJ19_copyOfRangeByte_9 rfl (lv_at hl 0 rfl) ?_
  obtain ⟨n4, xn4, h⟩ := gl_step (by decide) h
  refine r_newaB hx hb hts hS (ty := .byte) rfl q152 40 n4 xn4 (by decide) (by decide) (Nat.le_of_ble_eq_true rfl) (Nat.le_of_ble_eq_true rfl) dJ19_copyOfRangeByte_10 (fun ad3 H eq_ad3 hS hE had3 z_ad3 hB_had3 => ?_)
  have had3 : aB D ad3 n4 (fun _ => 0) H := had3
  have gad3 : s.heap.size ≤ ad3 := by have := hF.1; omega
  have ne_h_x0_had3 : x0 ≠ ad3 := by have := h_x0.lt; omega
  have h_x0 := h_x0.ext hE
  have hF := hF.trans (hE.mono (fun _ _ z => z.elim))
  refine lv_astore (lv' := [(4, .ref ad3), (3, .int v2), (0, .ref x0), (1, .int x1), (2, .int x2)]) hx hb dJ19_copyOfRangeByte_12 hl (by decide) rfl (fun ls hl => ?_)
  refine lv_aload_n hx hb dJ19_copyOfRangeByte_14 rfl (lv_at hl 2 rfl) ?_
  refine lv_iload_n hx hb dJ19_copyOfRangeByte_15 rfl (lv_at hl 3 rfl) ?_
  refine lv_aload hx hb dJ19_copyOfRangeByte_16 (lv_at hl 0 rfl) ?_
  refine lv_iconst (v := 0) hx hb dJ19_copyOfRangeByte_18 (by decide) ?_
  refine lv_aload_n hx hb dJ19_copyOfRangeByte_19 rfl (lv_at hl 2 rfl) ?_
  refine r_alen hx hb hS h_x0 dJ19_copyOfRangeByte_20 ?_
  refine lv_iload_n hx hb dJ19_copyOfRangeByte_21 rfl (lv_at hl 3 rfl) ?_
  obtain ⟨v5, ev5, h⟩ := lti_step h
  refine r_isub hx hb ev5 dJ19_copyOfRangeByte_22 ?_
  refine lv_iload_n hx hb dJ19_copyOfRangeByte_23 rfl (lv_at hl 1 rfl) ?_
  obtain ⟨o6, eo6, h⟩ := bind_step h
  refine r_cp (r_runS (rest := [.int 0, .ref ad3, .int x1, .ref x0]) (As := [.int v5, .int v2]) hC 2 (m_J12_min v5 v2  o6 eo6) q498 q259 q53 q260 hd_J12_min rfl ⟨Nat.le_of_ble_eq_true rfl, Nat.le_of_ble_eq_true rfl⟩ hS trivial hl.1 rfl (Nat.le_of_ble_eq_true rfl) dJ19_copyOfRangeByte_24 ⟨Nat.le_of_ble_eq_true rfl, Nat.le_of_ble_eq_true rfl⟩) ?_
  obtain ⟨i7, xi7, h⟩ := gd_step (nl1 l_x0) h
  obtain ⟨i8, xi8, h⟩ := gd_step (nl1 (le_of_gl xn4 (by decide))) h
  obtain ⟨i9, xi9, h⟩ := gd_step (nl1 l_x0) h
  obtain ⟨b10, h⟩ := ask_step h
  rw [Bool.and_eq_true] at b10
  obtain ⟨f11, ef11, h⟩ := lt_step h
  obtain ⟨b12, h⟩ := ask_step h
  refine r_copyB hC hS h_x0 had3 hB_had3 (byBb_ok b12) xi7 xi8 xi9 (Nat.le_of_ble_eq_true b10.1) (Nat.le_of_ble_eq_true b10.2) q499 q463 q462 q58 hl.1 ⟨Nat.le_of_ble_eq_true rfl, Nat.le_of_ble_eq_true rfl⟩ dJ19_copyOfRangeByte_27 (fun H locs hS hO had3 => ?_)
  have had3 : aB D ad3 n4 f11 H := by rw [ef11]; exact had3
  have h_x0 := h_x0.off hO ne_h_x0_had3
  have hF := hF.fresh hO (fun a ha z => absurd (z ▸ ha) (Nat.not_lt.mpr gad3))
  refine lv_aload hx hb dJ19_copyOfRangeByte_30 (lv_at hl 0 rfl) ?_
  obtain rfl := Option.some.inj h
  rw [eQ]
  exact r_aret hx hb hr (Or.inr ⟨_, rfl⟩) hlk hS (Nat.le_of_ble_eq_true rfl) (Nat.le_of_ble_eq_true rfl) dJ19_copyOfRangeByte_32 ⟨_, rfl, had3, (le_of_gl xn4 (by decide)), gad3, hF⟩

abbrev R_J19_copyOfRange : Room := { frames := 2, cells := 1, slots := 40, locals := 62 }
noncomputable def f_J19_copyOfRange (x0n : Nat) (x0c : Nat → Int32) (x1 : Int32) (x2 : Int32) : Option (Nat × (Nat → Int32)) :=
  (if x1 = 0 then
    (if x2 = (nI x0n) then
      none
    else
      Option.bind (f_J19_copyOfRangeByte x0n x0c x1 x2) fun o5 =>
      some (o5.1, o5.2)
    )
  else
    Option.bind (f_J19_copyOfRangeByte x0n x0c x1 x2) fun o2 =>
    some (o2.1, o2.2)
  )
theorem hd_J19_copyOfRange : Hd yJ19_copyOfRange 3 := by unfold Hd; decide +kernel
set_option maxHeartbeats 4000000 in
set_option maxRecDepth 100000 in
theorem m_J19_copyOfRange {l : Launch} {D : DD} (x0 : Nat)  (x0n : Nat) (x0c : Nat → Int32) (x1 : Int32) (x2 : Int32) (r : Nat × (Nat → Int32)) (h : f_J19_copyOfRange x0n x0c x1 x2 = some r) : MT l D yJ19_copyOfRange cJ19_copyOfRange 3 (some (.array .byte)) 2 62 1 40 [.ref x0, .int x1, .int x2] (fun H => aB D x0 x0n x0c H ∧ x0n ≤ 1000000) (pR (fun H b H' => aB D b r.1 r.2 H' ∧ r.1 ≤ 1000000 ∧ H.size ≤ b ∧ Off (fun _ => False) H H')) := by
  refine MT.start (by decide +kernel) (Nat.le_of_ble_eq_true rfl) ?_
  intro p e s m below meth c ls hC hS hp hl
  obtain ⟨h_x0, l_x0⟩ := hp
  obtain ⟨hx, hb, hr, hlk, hml, hown, hts, hnm⟩ := id hC
  have hl : lv_has ls 3 [(0, .ref x0), (1, .int x1), (2, .int x2)] := hl
  unfold f_J19_copyOfRange at h
  have hS0 := hS
  obtain ⟨A, eA⟩ : ∃ A : Array Value, A = [.ref x0, .int x1, .int x2].toArray := ⟨_, rfl⟩
  rw [← eA] at hC hts ⊢
  obtain ⟨Q, eQ⟩ : ∃ Q : State → Prop, Q = MQ below (TQ D (pR (fun H b H' => aB D b r.1 r.2 H' ∧ r.1 ≤ 1000000 ∧ H.size ≤ b ∧ Off (fun _ => False) H H'))) A s 1 40 (fun q => dB D ≤ q) := ⟨_, rfl⟩
  have hF : Off (fun _ => False) s.heap s.heap := Off.rf
  show W p l e R_J19_copyOfRange s m A below meth c s.heap [] 0 0 _ _
  rw [← eQ]
  obtain ⟨H, eH⟩ : ∃ H : Heap, H = s.heap := ⟨_, rfl⟩
  obtain ⟨locs, eLc⟩ : ∃ L : List Loc, L = [] := ⟨_, rfl⟩
  have lt_h_x0 := h_x0.lt
  rw [← eH, ← eLc]
  have hF : Off (fun _ => False) s.heap H := by rw [eH]; exact hF
  rw [← eH] at h_x0
  have hS : St D s H locs := by rw [eH, eLc]; exact hS
  refine lv_iload_n hx hb dJ19_copyOfRange_0 rfl (lv_at hl 1 rfl) ?_
  refine lv_if_ne (tgt := 10) hx hb dJ19_copyOfRange_1 (by decide) (fun c1 => ?_) (fun c1 => ?_)
  · have h := it_neg h c1
    refine lv_aload_n hx hb dJ19_copyOfRange_10 rfl (lv_at hl 0 rfl) ?_
    refine lv_iload_n hx hb dJ19_copyOfRange_11 rfl (lv_at hl 1 rfl) ?_
    refine lv_iload_n hx hb dJ19_copyOfRange_12 rfl (lv_at hl 2 rfl) ?_
    obtain ⟨o2, eo2, h⟩ := bind_step h
    refine r_cr (r_runS (rest := []) (As := [.ref x0, .int x1, .int x2]) hC 3 (m_J19_copyOfRangeByte x0  x0n x0c x1 x2 o2 eo2) q728 q729 q61 q730 hd_J19_copyOfRangeByte rfl ⟨Nat.le_of_ble_eq_true rfl, Nat.le_of_ble_eq_true rfl⟩ hS ⟨h_x0, l_x0⟩ hl.1 rfl (Nat.le_of_ble_eq_true rfl) dJ19_copyOfRange_13 ⟨Nat.le_of_ble_eq_true rfl, Nat.le_of_ble_eq_true rfl⟩) hS (fun ad3 H locs hp hS hz => ?_)
    obtain ⟨had3, lo2_1, frad3, hO⟩ := hp
    have ne_h_x0_had3 : x0 ≠ ad3 := Nat.ne_of_lt (Nat.lt_of_lt_of_le h_x0.lt frad3)
    have gad3 : s.heap.size ≤ ad3 := Nat.le_trans hF.1 frad3
    have hB_had3 : dB D ≤ ad3 := by have := hS0.1.2.2.1; omega
    have h_x0 := h_x0.ext hO
    have hF := hF.trans (hO.mono (fun _ _ z => z.elim))
    obtain rfl := Option.some.inj h
    rw [eQ]
    exact r_aret hx hb hr (Or.inr ⟨_, rfl⟩) hlk hS (Nat.le_of_ble_eq_true rfl) (Nat.le_of_ble_eq_true rfl) dJ19_copyOfRange_16 ⟨_, rfl, had3, lo2_1, gad3, hF⟩
  · have h := it_pos h c1
    refine lv_iload_n hx hb dJ19_copyOfRange_4 rfl (lv_at hl 2 rfl) ?_
    refine lv_aload_n hx hb dJ19_copyOfRange_5 rfl (lv_at hl 0 rfl) ?_
    refine r_alen hx hb hS h_x0 dJ19_copyOfRange_6 ?_
    refine lv_icmp_eq (tgt := 17) hx hb dJ19_copyOfRange_7 (by decide) (fun c4 => ?_) (fun c4 => ?_)
    · have h := it_pos h c4
      cases h
    · have h := it_neg h c4
      refine lv_aload_n hx hb dJ19_copyOfRange_10 rfl (lv_at hl 0 rfl) ?_
      refine lv_iload_n hx hb dJ19_copyOfRange_11 rfl (lv_at hl 1 rfl) ?_
      refine lv_iload_n hx hb dJ19_copyOfRange_12 rfl (lv_at hl 2 rfl) ?_
      obtain ⟨o5, eo5, h⟩ := bind_step h
      refine r_cr (r_runS (rest := []) (As := [.ref x0, .int x1, .int x2]) hC 3 (m_J19_copyOfRangeByte x0  x0n x0c x1 x2 o5 eo5) q728 q729 q61 q730 hd_J19_copyOfRangeByte rfl ⟨Nat.le_of_ble_eq_true rfl, Nat.le_of_ble_eq_true rfl⟩ hS ⟨h_x0, l_x0⟩ hl.1 rfl (Nat.le_of_ble_eq_true rfl) dJ19_copyOfRange_13 ⟨Nat.le_of_ble_eq_true rfl, Nat.le_of_ble_eq_true rfl⟩) hS (fun ad6 H locs hp hS hz => ?_)
      obtain ⟨had6, lo5_1, frad6, hO⟩ := hp
      have ne_h_x0_had6 : x0 ≠ ad6 := Nat.ne_of_lt (Nat.lt_of_lt_of_le h_x0.lt frad6)
      have gad6 : s.heap.size ≤ ad6 := Nat.le_trans hF.1 frad6
      have hB_had6 : dB D ≤ ad6 := by have := hS0.1.2.2.1; omega
      have h_x0 := h_x0.ext hO
      have hF := hF.trans (hO.mono (fun _ _ z => z.elim))
      obtain rfl := Option.some.inj h
      rw [eQ]
      exact r_aret hx hb hr (Or.inr ⟨_, rfl⟩) hlk hS (Nat.le_of_ble_eq_true rfl) (Nat.le_of_ble_eq_true rfl) dJ19_copyOfRange_16 ⟨_, rfl, had6, lo5_1, gad6, hF⟩

abbrev R_J21_ec_A : Room := { frames := 0, cells := 0, slots := 0, locals := 0 }
noncomputable def f_J21_ec_A (x0r0n : Nat) (x0r0c : Nat → Int32) (x0f3 : Int32) (x1 : Int32) : Option (Unit) :=
  lti ((nI x0r0n) >>> (0 &&& 31)) fun v1 =>
  lti (x1 - v1) fun v2 =>
  (if v2 ≤ 0 then
    some ()
  else
    none
  )
theorem hd_J21_ec_A : Hd yJ21_ensureCapacityInternal 1 := by unfold Hd; decide +kernel
set_option maxHeartbeats 4000000 in
set_option maxRecDepth 100000 in
theorem m_J21_ec_A {l : Launch} {D : DD} (x0 : Nat) (x0r0 : Nat)  (x0r0n : Nat) (x0r0c : Nat → Int32) (x0f3 : Int32) (x1 : Int32) (r : Unit) (h : f_J21_ec_A x0r0n x0r0c x0f3 x1 = some r) : MP l D yJ21_ensureCapacityInternal cJ21_ensureCapacityInternal 3 none 0 0 [.ref x0, .int x1] (fun H => ON D 4 x0 [.ref x0r0, .int 0, .int 0, .int x0f3] H ∧ aB D x0r0 x0r0n x0r0c H ∧ x0r0n ≤ 1000000) none := by
  refine MP.start (by decide +kernel) (Nat.le_of_ble_eq_true rfl) ?_
  intro p e s m below meth c ls hC hS hp hl
  obtain ⟨h_x0, h_x0r0, l_x0r0⟩ := hp
  obtain ⟨hx, hb, hr, hlk, hml, hown, hts, hnm⟩ := id hC
  have hl : lv_has ls 3 [(0, .ref x0), (1, .int x1)] := hl
  unfold f_J21_ec_A at h
  have hS0 := hS
  obtain ⟨A, eA⟩ : ∃ A : Array Value, A = [.ref x0, .int x1].toArray := ⟨_, rfl⟩
  rw [← eA] at hC hts ⊢
  obtain ⟨Q, eQ⟩ : ∃ Q : State → Prop, Q = MQ below (PQ none) A s 0 0 (fun _ => False) := ⟨_, rfl⟩
  show W p l e R_J21_ec_A s m A below meth c s.heap [] 0 0 _ _
  rw [← eQ]
  refine lv_aload_n hx hb dJ21_ensureCapacityInternal_0 rfl (lv_at hl 0 rfl) ?_
  refine r_get hx hb hts hown hS h_x0.OA rfl in_J22 0 (by decide) q552 rfl (v := .ref x0r0) rfl dJ21_ensureCapacityInternal_1 ?_
  refine r_alen hx hb hS h_x0r0 dJ21_ensureCapacityInternal_4 ?_
  refine lv_aload_n hx hb dJ21_ensureCapacityInternal_5 rfl (lv_at hl 0 rfl) ?_
  refine r_get hx hb hts hown hS h_x0.OA rfl in_J22 1 (by decide) q553 rfl (v := .int 0) rfl dJ21_ensureCapacityInternal_6 ?_
  obtain ⟨v1, ev1, h⟩ := lti_step h
  refine r_ishr hx hb ev1 dJ21_ensureCapacityInternal_9 ?_
  refine lv_istore_n (lv' := [(2, .int v1), (0, .ref x0), (1, .int x1)]) hx hb dJ21_ensureCapacityInternal_10 rfl hl (by decide) rfl (fun ls hl => ?_)
  refine lv_iload_n hx hb dJ21_ensureCapacityInternal_11 rfl (lv_at hl 2 rfl) ?_
  refine lv_iload_n hx hb dJ21_ensureCapacityInternal_12 rfl (lv_at hl 0 rfl) ?_
  obtain ⟨v2, ev2, h⟩ := lti_step h
  refine r_isub hx hb ev2 dJ21_ensureCapacityInternal_13 ?_
  refine lv_if_le (tgt := 38) hx hb dJ21_ensureCapacityInternal_14 (by decide) (fun c3 => ?_) (fun c3 => ?_)
  · have h := it_pos h c3
    obtain rfl := Option.some.inj h
    rw [eQ]
    exact p_vret hx hb hr hlk dJ21_ensureCapacityInternal_38
  · have h := it_neg h c3
    cases h

abbrev R_J21_ec_B : Room := { frames := 3, cells := 1, slots := 40, locals := 69 }
noncomputable def f_J21_ec_B (x0r0n : Nat) (x0r0c : Nat → Int32) (x0f3 : Int32) (x1 : Int32) : Option (Nat × (Nat → Int32)) :=
  lti ((nI x0r0n) >>> (0 &&& 31)) fun v1 =>
  lti (x1 - v1) fun v2 =>
  (if v2 ≤ 0 then
    none
  else
    Option.bind (f_J21_newCapacity x0r0n x0r0c x0f3 x1) fun o4 =>
    lti (o4 <<< (0 &&& 31)) fun v5 =>
    Option.bind (f_J19_copyOf_2 x0r0n x0r0c v5) fun o6 =>
    some (o6.1, o6.2)
  )
theorem hd_J21_ec_B : Hd yJ21_ensureCapacityInternal 1 := by unfold Hd; decide +kernel
set_option maxHeartbeats 4000000 in
set_option maxRecDepth 100000 in
theorem m_J21_ec_B {l : Launch} {D : DD} (x0 : Nat) (x0r0 : Nat)  (x0r0n : Nat) (x0r0c : Nat → Int32) (x0f3 : Int32) (x1 : Int32) (r : Nat × (Nat → Int32)) (h : f_J21_ec_B x0r0n x0r0c x0f3 x1 = some r) : MT l D yJ21_ensureCapacityInternal cJ21_ensureCapacityInternal 3 none 3 69 1 40 [.ref x0, .int x1] (fun H => ON D 4 x0 [.ref x0r0, .int 0, .int 0, .int x0f3] H ∧ dB D ≤ x0 ∧ aB D x0r0 x0r0n x0r0c H ∧ x0r0n ≤ 1000000 ∧ x0 ≠ x0r0) (pV (fun H H' => ∃ mx0_0 : Nat, ON D 4 x0 [.ref mx0_0, .int 0, .int 0, .int x0f3] H' ∧ aB D mx0_0 r.1 r.2 H' ∧ r.1 ≤ 1000000 ∧ H.size ≤ mx0_0 ∧ Off (fun a => a = x0) H H')) := by
  refine MT.start (by decide +kernel) (Nat.le_of_ble_eq_true rfl) ?_
  intro p e s m below meth c ls hC hS hp hl
  obtain ⟨h_x0, hB_h_x0, h_x0r0, l_x0r0, ne_x0_x0r0⟩ := hp
  obtain ⟨hx, hb, hr, hlk, hml, hown, hts, hnm⟩ := id hC
  have hl : lv_has ls 3 [(0, .ref x0), (1, .int x1)] := hl
  unfold f_J21_ec_B at h
  have hS0 := hS
  obtain ⟨A, eA⟩ : ∃ A : Array Value, A = [.ref x0, .int x1].toArray := ⟨_, rfl⟩
  rw [← eA] at hC hts ⊢
  obtain ⟨Q, eQ⟩ : ∃ Q : State → Prop, Q = MQ below (TQ D (pV (fun H H' => ∃ mx0_0 : Nat, ON D 4 x0 [.ref mx0_0, .int 0, .int 0, .int x0f3] H' ∧ aB D mx0_0 r.1 r.2 H' ∧ r.1 ≤ 1000000 ∧ H.size ≤ mx0_0 ∧ Off (fun a => a = x0) H H'))) A s 1 40 (fun q => dB D ≤ q) := ⟨_, rfl⟩
  have hF : Off (fun a => a = x0) s.heap s.heap := Off.rf
  show W p l e R_J21_ec_B s m A below meth c s.heap [] 0 0 _ _
  rw [← eQ]
  obtain ⟨H, eH⟩ : ∃ H : Heap, H = s.heap := ⟨_, rfl⟩
  obtain ⟨locs, eLc⟩ : ∃ L : List Loc, L = [] := ⟨_, rfl⟩
  have lt_h_x0 := h_x0.lt
  have lt_h_x0r0 := h_x0r0.lt
  rw [← eH, ← eLc]
  have hF : Off (fun a => a = x0) s.heap H := by rw [eH]; exact hF
  rw [← eH] at h_x0
  rw [← eH] at h_x0r0
  have hS : St D s H locs := by rw [eH, eLc]; exact hS
  refine lv_aload_n hx hb dJ21_ensureCapacityInternal_0 rfl (lv_at hl 0 rfl) ?_
  refine r_get hx hb hts hown hS h_x0.OA rfl in_J22 0 (by decide) q552 rfl (v := .ref x0r0) rfl dJ21_ensureCapacityInternal_1 ?_
  refine r_alen hx hb hS h_x0r0 dJ21_ensureCapacityInternal_4 ?_
  refine lv_aload_n hx hb dJ21_ensureCapacityInternal_5 rfl (lv_at hl 0 rfl) ?_
  refine r_get hx hb hts hown hS h_x0.OA rfl in_J22 1 (by decide) q553 rfl (v := .int 0) rfl dJ21_ensureCapacityInternal_6 ?_
  obtain ⟨v1, ev1, h⟩ := lti_step h
  refine r_ishr hx hb ev1 dJ21_ensureCapacityInternal_9 ?_
  refine lv_istore_n (lv' := [(2, .int v1), (0, .ref x0), (1, .int x1)]) hx hb dJ21_ensureCapacityInternal_10 rfl hl (by decide) rfl (fun ls hl => ?_)
  refine lv_iload_n hx hb dJ21_ensureCapacityInternal_11 rfl (lv_at hl 2 rfl) ?_
  refine lv_iload_n hx hb dJ21_ensureCapacityInternal_12 rfl (lv_at hl 0 rfl) ?_
  obtain ⟨v2, ev2, h⟩ := lti_step h
  refine r_isub hx hb ev2 dJ21_ensureCapacityInternal_13 ?_
  refine lv_if_le (tgt := 38) hx hb dJ21_ensureCapacityInternal_14 (by decide) (fun c3 => ?_) (fun c3 => ?_)
  · have h := it_pos h c3
    cases h
  · have h := it_neg h c3
    refine lv_aload_n hx hb dJ21_ensureCapacityInternal_17 rfl (lv_at hl 1 rfl) ?_
    refine lv_aload_n hx hb dJ21_ensureCapacityInternal_18 rfl (lv_at hl 1 rfl) ?_
    refine r_get hx hb hts hown hS h_x0.OA rfl in_J22 0 (by decide) q552 rfl (v := .ref x0r0) rfl dJ21_ensureCapacityInternal_19 ?_
    refine lv_aload_n hx hb dJ21_ensureCapacityInternal_22 rfl (lv_at hl 1 rfl) ?_
    refine lv_iload_n hx hb dJ21_ensureCapacityInternal_23 rfl (lv_at hl 2 rfl) ?_
    obtain ⟨o4, eo4, h⟩ := bind_step h
    refine r_cp (r_runVC (rest := [.ref x0r0, .ref x0]) (As := [.int x1]) hC 1 (m_J21_newCapacity x0 x0r0  x0r0n x0r0c x0f3 x1 o4 eo4) q581 q583 (sel_priv (hts _ q605) rfl ⟨by decide, by decide⟩ (hts _ q583) (priv_at hS q582)) q63 q584 (OA.recv hS h_x0.OA (C := RJ22) rfl) hd_J21_newCapacity rfl ⟨Nat.le_of_ble_eq_true rfl, Nat.le_of_ble_eq_true rfl⟩ hS ⟨h_x0, h_x0r0, l_x0r0⟩ hl.1 rfl (Nat.le_of_ble_eq_true rfl) dJ21_ensureCapacityInternal_24 ⟨Nat.le_of_ble_eq_true rfl, Nat.le_of_ble_eq_true rfl⟩) ?_
    refine lv_aload_n hx hb dJ21_ensureCapacityInternal_27 rfl (lv_at hl 1 rfl) ?_
    refine r_get hx hb hts hown hS h_x0.OA rfl in_J22 1 (by decide) q553 rfl (v := .int 0) rfl dJ21_ensureCapacityInternal_28 ?_
    obtain ⟨v5, ev5, h⟩ := lti_step h
    refine r_ishl hx hb ev5 dJ21_ensureCapacityInternal_31 ?_
    obtain ⟨o6, eo6, h⟩ := bind_step h
    refine r_cr (r_runS (rest := [.ref x0]) (As := [.ref x0r0, .int v5]) hC 2 (m_J19_copyOf_2 x0r0  x0r0n x0r0c v5 o6 eo6) q594 q595 q61 q596 hd_J19_copyOf_2 rfl ⟨Nat.le_of_ble_eq_true rfl, Nat.le_of_ble_eq_true rfl⟩ hS ⟨h_x0r0, l_x0r0⟩ hl.1 rfl (Nat.le_of_ble_eq_true rfl) dJ21_ensureCapacityInternal_32 ⟨Nat.le_of_ble_eq_true rfl, Nat.le_of_ble_eq_true rfl⟩) hS (fun ad7 H locs hp hS hz => ?_)
    obtain ⟨had7, lo6_1, frad7, hO⟩ := hp
    have ne_h_x0_had7 : x0 ≠ ad7 := Nat.ne_of_lt (Nat.lt_of_lt_of_le h_x0.lt frad7)
    have ne_h_x0r0_had7 : x0r0 ≠ ad7 := Nat.ne_of_lt (Nat.lt_of_lt_of_le h_x0r0.lt frad7)
    have gad7 : s.heap.size ≤ ad7 := Nat.le_trans hF.1 frad7
    have hB_had7 : dB D ≤ ad7 := by have := hS0.1.2.2.1; omega
    have h_x0 := h_x0.ext hO
    have h_x0r0 := h_x0r0.ext hO
    have hF := hF.trans (hO.mono (fun _ _ z => z.elim))
    refine r_put hx hb hts hown hS h_x0 hB_h_x0 rfl in_J22 tyJ22 tyJ22_ok nmJ22 0 (Nat.le_of_ble_eq_true rfl) rfl q552 rfl rfl (v := .ref ad7) rfl (by rfl) dJ21_ensureCapacityInternal_35 (fun H locs hS hO h_x0 => ?_)
    have h_x0 : ON D 4 x0 [.ref ad7, .int 0, .int 0, .int x0f3] H := h_x0
    have h_x0r0 := h_x0r0.off hO (Ne.symm ne_x0_x0r0)
    have had7 := had7.off hO (Ne.symm ne_h_x0_had7)
    have hF := hF.fresh hO (fun a ha z => z)
    obtain rfl := Option.some.inj h
    rw [eQ]
    exact r_vret hx hb hr hlk hS (Nat.le_of_ble_eq_true rfl) (Nat.le_of_ble_eq_true rfl) dJ21_ensureCapacityInternal_38 ⟨rfl, ad7, h_x0, had7, lo6_1, gad7, hF⟩

abbrev R_J21_append_2_A : Room := { frames := 1, cells := 0, slots := 0, locals := 26 }
noncomputable def f_J21_append_2_A (x0r0n : Nat) (x0r0c : Nat → Int32) (x0f3 : Int32) (x1 : Int32) : Option (Int32 × (Nat → Int32)) :=
  Option.bind (f_J26_stringSize x1) fun o1 =>
  lti (x0f3 + o1) fun v2 =>
  Option.bind (f_J21_ec_A x0r0n x0r0c x0f3 v2) fun o3 =>
  Option.bind (f_J21_isLatin1 x0r0n x0r0c x0f3) fun o4 =>
  (if o4 = true then
    Option.bind (f_J26_getChars x1 v2 x0r0n x0r0c) fun o6 =>
    some (v2, o6.2)
  else
    none
  )
theorem hd_J21_append_2_A : Hd yJ21_append_2 1 := by unfold Hd; decide +kernel
set_option maxHeartbeats 4000000 in
set_option maxRecDepth 100000 in
theorem m_J21_append_2_A {l : Launch} {D : DD} (x0 : Nat) (x0r0 : Nat)  (x0r0n : Nat) (x0r0c : Nat → Int32) (x0f3 : Int32) (x1 : Int32) (r : Int32 × (Nat → Int32)) (h : f_J21_append_2_A x0r0n x0r0c x0f3 x1 = some r) : MT l D yJ21_append_2 cJ21_append_2 4 (some (.object "java/lang/AbstractStringBuilder")) 1 26 0 0 [.ref x0, .int x1] (fun H => ON D 4 x0 [.ref x0r0, .int 0, .int 0, .int x0f3] H ∧ dB D ≤ x0 ∧ aB D x0r0 x0r0n x0r0c H ∧ x0r0n ≤ 1000000 ∧ dB D ≤ x0r0 ∧ x0 ≠ x0r0) (pR (fun H b H' => b = x0 ∧ ON D 4 x0 [.ref x0r0, .int 0, .int 0, .int r.1] H' ∧ aB D x0r0 x0r0n r.2 H' ∧ Off (fun a => a = x0 ∨ a = x0r0) H H')) := by
  refine MT.start (by decide +kernel) (Nat.le_of_ble_eq_true rfl) ?_
  intro p e s m below meth c ls hC hS hp hl
  obtain ⟨h_x0, hB_h_x0, h_x0r0, l_x0r0, hB_h_x0r0, ne_x0_x0r0⟩ := hp
  obtain ⟨hx, hb, hr, hlk, hml, hown, hts, hnm⟩ := id hC
  have hl : lv_has ls 4 [(0, .ref x0), (1, .int x1)] := hl
  unfold f_J21_append_2_A at h
  have hS0 := hS
  obtain ⟨A, eA⟩ : ∃ A : Array Value, A = [.ref x0, .int x1].toArray := ⟨_, rfl⟩
  rw [← eA] at hC hts ⊢
  obtain ⟨Q, eQ⟩ : ∃ Q : State → Prop, Q = MQ below (TQ D (pR (fun H b H' => b = x0 ∧ ON D 4 x0 [.ref x0r0, .int 0, .int 0, .int r.1] H' ∧ aB D x0r0 x0r0n r.2 H' ∧ Off (fun a => a = x0 ∨ a = x0r0) H H'))) A s 0 0 (fun q => dB D ≤ q) := ⟨_, rfl⟩
  have hF : Off (fun a => a = x0 ∨ a = x0r0) s.heap s.heap := Off.rf
  show W p l e R_J21_append_2_A s m A below meth c s.heap [] 0 0 _ _
  rw [← eQ]
  obtain ⟨H, eH⟩ : ∃ H : Heap, H = s.heap := ⟨_, rfl⟩
  obtain ⟨locs, eLc⟩ : ∃ L : List Loc, L = [] := ⟨_, rfl⟩
  have lt_h_x0 := h_x0.lt
  have lt_h_x0r0 := h_x0r0.lt
  rw [← eH, ← eLc]
  have hF : Off (fun a => a = x0 ∨ a = x0r0) s.heap H := by rw [eH]; exact hF
  rw [← eH] at h_x0
  rw [← eH] at h_x0r0
  have hS : St D s H locs := by rw [eH, eLc]; exact hS
  refine lv_aload_n hx hb dJ21_append_2_0 rfl (lv_at hl 0 rfl) ?_
  refine r_get hx hb hts hown hS h_x0.OA rfl in_J22 3 (by decide) q555 rfl (v := .int x0f3) rfl dJ21_append_2_1 ?_
  refine lv_istore_n (lv' := [(2, .int x0f3), (0, .ref x0), (1, .int x1)]) hx hb dJ21_append_2_4 rfl hl (by decide) rfl (fun ls hl => ?_)
  refine lv_iload_n hx hb dJ21_append_2_5 rfl (lv_at hl 0 rfl) ?_
  refine lv_iload_n hx hb dJ21_append_2_6 rfl (lv_at hl 2 rfl) ?_
  obtain ⟨o1, eo1, h⟩ := bind_step h
  refine r_cp (r_runS (rest := [.int x0f3]) (As := [.int x1]) hC 1 (m_J26_stringSize   x1 o1 eo1) q681 q682 q68 q683 hd_J26_stringSize rfl ⟨Nat.le_of_ble_eq_true rfl, Nat.le_of_ble_eq_true rfl⟩ hS trivial hl.1 rfl (Nat.le_of_ble_eq_true rfl) dJ21_append_2_7 ⟨Nat.le_of_ble_eq_true rfl, Nat.le_of_ble_eq_true rfl⟩) ?_
  obtain ⟨v2, ev2, h⟩ := lti_step h
  refine r_iadd hx hb ev2 dJ21_append_2_10 ?_
  refine lv_istore_n (lv' := [(3, .int v2), (2, .int x0f3), (0, .ref x0), (1, .int x1)]) hx hb dJ21_append_2_11 rfl hl (by decide) rfl (fun ls hl => ?_)
  refine lv_aload_n hx hb dJ21_append_2_12 rfl (lv_at hl 2 rfl) ?_
  refine lv_iload_n hx hb dJ21_append_2_13 rfl (lv_at hl 0 rfl) ?_
  obtain ⟨o3, eo3, h⟩ := bind_step h
  refine r_cpv (r_runVC (rest := []) (As := [.int v2]) hC 1 (m_J21_ec_A x0 x0r0  x0r0n x0r0c x0f3 v2 o3 eo3) q577 q579 (sel_priv (hts _ q605) rfl ⟨by decide, by decide⟩ (hts _ q579) (priv_at hS q578)) q63 q580 (OA.recv hS h_x0.OA (C := RJ22) rfl) hd_J21_ec_A rfl ⟨Nat.le_of_ble_eq_true rfl, Nat.le_of_ble_eq_true rfl⟩ hS ⟨h_x0, h_x0r0, l_x0r0⟩ hl.1 rfl (Nat.le_of_ble_eq_true rfl) dJ21_append_2_14 ⟨Nat.le_of_ble_eq_true rfl, Nat.le_of_ble_eq_true rfl⟩) ?_
  refine lv_aload_n hx hb dJ21_append_2_17 rfl (lv_at hl 2 rfl) ?_
  obtain ⟨o4, eo4, h⟩ := bind_step h
  refine r_cp (r_runVC (rest := []) (As := []) hC 0 (m_J21_isLatin1 x0 x0r0  x0r0n x0r0c x0f3 o4 eo4) q602 q603 (hts _ q605) q63 q606 (OA.recv hS h_x0.OA (C := RJ22) rfl) hd_J21_isLatin1 rfl ⟨Nat.le_of_ble_eq_true rfl, Nat.le_of_ble_eq_true rfl⟩ hS ⟨h_x0, h_x0r0, l_x0r0⟩ hl.1 rfl (Nat.le_of_ble_eq_true rfl) dJ21_append_2_18 ⟨Nat.le_of_ble_eq_true rfl, Nat.le_of_ble_eq_true rfl⟩) ?_
  refine r_ifz_eq (tgt := 37) hx hb dJ21_append_2_21 (by decide) (fun c5 => ?_) (fun c5 => ?_)
  · have h := it_neg h (by rw [c5]; decide)
    cases h
  · have h := it_pos h (by rw [c5])
    refine lv_iload_n hx hb dJ21_append_2_24 rfl (lv_at hl 3 rfl) ?_
    refine lv_iload_n hx hb dJ21_append_2_25 rfl (lv_at hl 0 rfl) ?_
    refine lv_aload_n hx hb dJ21_append_2_26 rfl (lv_at hl 2 rfl) ?_
    refine r_get hx hb hts hown hS h_x0.OA rfl in_J22 0 (by decide) q552 rfl (v := .ref x0r0) rfl dJ21_append_2_27 ?_
    obtain ⟨o6, eo6, h⟩ := bind_step h
    refine r_ci (r_runS (rest := []) (As := [.int x1, .int v2, .ref x0r0]) hC 3 (m_J26_getChars x0r0  x1 v2 x0r0n x0r0c o6 eo6) q684 q685 q68 q686 hd_J26_getChars rfl ⟨Nat.le_of_ble_eq_true rfl, Nat.le_of_ble_eq_true rfl⟩ hS ⟨h_x0r0, l_x0r0, hB_h_x0r0⟩ hl.1 rfl (Nat.le_of_ble_eq_true rfl) dJ21_append_2_30 ⟨Nat.le_of_ble_eq_true rfl, Nat.le_of_ble_eq_true rfl⟩) hS (fun b H locs hp hS hz => ?_)
    obtain ⟨rfl, h_x0r0, hO⟩ := hp
    have h_x0 := h_x0.off hO ne_x0_x0r0
    have hF := hF.fresh hO (fun a ha z => Or.inr (z))
    refine lv_pop hx hb dJ21_append_2_33 rfl ?_
    refine lv_goto (tgt := 48) hx hb dJ21_append_2_34 (by decide) ?_
    refine lv_aload_n hx hb dJ21_append_2_48 rfl (lv_at hl 2 rfl) ?_
    refine lv_iload_n hx hb dJ21_append_2_49 rfl (lv_at hl 0 rfl) ?_
    refine r_put hx hb hts hown hS h_x0 hB_h_x0 rfl in_J22 tyJ22 tyJ22_ok nmJ22 3 (Nat.le_of_ble_eq_true rfl) rfl q555 rfl rfl (v := .int v2) rfl (by rfl) dJ21_append_2_50 (fun H locs hS hO h_x0 => ?_)
    have h_x0 : ON D 4 x0 [.ref x0r0, .int 0, .int 0, .int v2] H := h_x0
    have h_x0r0 := h_x0r0.off hO (Ne.symm ne_x0_x0r0)
    have hF := hF.fresh hO (fun a ha z => Or.inl z)
    refine lv_aload_n hx hb dJ21_append_2_53 rfl (lv_at hl 2 rfl) ?_
    obtain rfl := Option.some.inj h
    rw [eQ]
    exact r_aret hx hb hr (Or.inl ⟨_, rfl⟩) hlk hS (Nat.le_of_ble_eq_true rfl) (Nat.le_of_ble_eq_true rfl) dJ21_append_2_54 ⟨_, rfl, rfl, h_x0, h_x0r0, hF⟩

abbrev R_J22_append_2_A : Room := { frames := 2, cells := 0, slots := 0, locals := 49 }
noncomputable def f_J22_append_2_A (x0r0n : Nat) (x0r0c : Nat → Int32) (x0f3 : Int32) (x1 : Int32) : Option (Int32 × (Nat → Int32)) :=
  Option.bind (f_J21_append_2_A x0r0n x0r0c x0f3 x1) fun o1 =>
  some (o1.1, o1.2)
theorem hd_J22_append_2_A : Hd yJ22_append_2 1 := by unfold Hd; decide +kernel
set_option maxHeartbeats 4000000 in
set_option maxRecDepth 100000 in
theorem m_J22_append_2_A {l : Launch} {D : DD} (x0 : Nat) (x0r0 : Nat)  (x0r0n : Nat) (x0r0c : Nat → Int32) (x0f3 : Int32) (x1 : Int32) (r : Int32 × (Nat → Int32)) (h : f_J22_append_2_A x0r0n x0r0c x0f3 x1 = some r) : MT l D yJ22_append_2 cJ22_append_2 2 (some (.object "java/lang/StringBuilder")) 2 49 0 0 [.ref x0, .int x1] (fun H => ON D 4 x0 [.ref x0r0, .int 0, .int 0, .int x0f3] H ∧ dB D ≤ x0 ∧ aB D x0r0 x0r0n x0r0c H ∧ x0r0n ≤ 1000000 ∧ dB D ≤ x0r0 ∧ x0 ≠ x0r0) (pR (fun H b H' => b = x0 ∧ ON D 4 x0 [.ref x0r0, .int 0, .int 0, .int r.1] H' ∧ aB D x0r0 x0r0n r.2 H' ∧ Off (fun a => a = x0 ∨ a = x0r0) H H')) := by
  refine MT.start (by decide +kernel) (Nat.le_of_ble_eq_true rfl) ?_
  intro p e s m below meth c ls hC hS hp hl
  obtain ⟨h_x0, hB_h_x0, h_x0r0, l_x0r0, hB_h_x0r0, ne_x0_x0r0⟩ := hp
  obtain ⟨hx, hb, hr, hlk, hml, hown, hts, hnm⟩ := id hC
  have hl : lv_has ls 2 [(0, .ref x0), (1, .int x1)] := hl
  unfold f_J22_append_2_A at h
  have hS0 := hS
  obtain ⟨A, eA⟩ : ∃ A : Array Value, A = [.ref x0, .int x1].toArray := ⟨_, rfl⟩
  rw [← eA] at hC hts ⊢
  obtain ⟨Q, eQ⟩ : ∃ Q : State → Prop, Q = MQ below (TQ D (pR (fun H b H' => b = x0 ∧ ON D 4 x0 [.ref x0r0, .int 0, .int 0, .int r.1] H' ∧ aB D x0r0 x0r0n r.2 H' ∧ Off (fun a => a = x0 ∨ a = x0r0) H H'))) A s 0 0 (fun q => dB D ≤ q) := ⟨_, rfl⟩
  have hF : Off (fun a => a = x0 ∨ a = x0r0) s.heap s.heap := Off.rf
  show W p l e R_J22_append_2_A s m A below meth c s.heap [] 0 0 _ _
  rw [← eQ]
  obtain ⟨H, eH⟩ : ∃ H : Heap, H = s.heap := ⟨_, rfl⟩
  obtain ⟨locs, eLc⟩ : ∃ L : List Loc, L = [] := ⟨_, rfl⟩
  have lt_h_x0 := h_x0.lt
  have lt_h_x0r0 := h_x0r0.lt
  rw [← eH, ← eLc]
  have hF : Off (fun a => a = x0 ∨ a = x0r0) s.heap H := by rw [eH]; exact hF
  rw [← eH] at h_x0
  rw [← eH] at h_x0r0
  have hS : St D s H locs := by rw [eH, eLc]; exact hS
  refine lv_aload_n hx hb dJ22_append_2_0 rfl (lv_at hl 0 rfl) ?_
  refine lv_iload_n hx hb dJ22_append_2_1 rfl (lv_at hl 1 rfl) ?_
  obtain ⟨o1, eo1, h⟩ := bind_step h
  refine r_cr (r_runSU (k := 4) (rest := []) (As := [.int x1]) hC 1 rfl (m_J21_append_2_A x0 x0r0  x0r0n x0r0c x0f3 x1 o1 eo1) q678 q1781 q564 q679 q63 q680 (OA.recv hS h_x0.OA (C := RJ22) rfl) hd_J21_append_2_A (by decide) rfl ⟨Nat.le_of_ble_eq_true rfl, Nat.le_of_ble_eq_true rfl⟩ hS ⟨h_x0, hB_h_x0, h_x0r0, l_x0r0, hB_h_x0r0, ne_x0_x0r0⟩ hl.1 rfl (Nat.le_of_ble_eq_true rfl) dJ22_append_2_2 ⟨Nat.le_of_ble_eq_true rfl, Nat.le_of_ble_eq_true rfl⟩) hS (fun b H locs hp hS hz => ?_)
  obtain ⟨eb_, h_x0, h_x0r0, hO⟩ := hp
  rw [eb_]
  have hF := hF.fresh hO (fun a ha z => by
    rcases z with z | z
    · exact Or.inl z
    · exact Or.inr (z))
  refine lv_pop hx hb dJ22_append_2_5 rfl ?_
  refine lv_aload_n hx hb dJ22_append_2_6 rfl (lv_at hl 0 rfl) ?_
  obtain rfl := Option.some.inj h
  rw [eQ]
  exact r_aret hx hb hr (Or.inl ⟨_, rfl⟩) hlk hS (Nat.le_of_ble_eq_true rfl) (Nat.le_of_ble_eq_true rfl) dJ22_append_2_7 ⟨_, rfl, rfl, h_x0, h_x0r0, hF⟩

abbrev R_J21_append_3_A : Room := { frames := 1, cells := 0, slots := 0, locals := 22 }
noncomputable def f_J21_append_3_A (x0r0n : Nat) (x0r0c : Nat → Int32) (x0f3 : Int32) (x1 : Int32) : Option (Int32 × (Nat → Int32)) :=
  lti (x0f3 + 1) fun v1 =>
  Option.bind (f_J21_ec_A x0r0n x0r0c x0f3 v1) fun o2 =>
  Option.bind (f_J21_isLatin1 x0r0n x0r0c x0f3) fun o3 =>
  (if o3 = true then
    Option.bind (f_J25_canEncode x1) fun o5 =>
    (if o5 = true then
      lti (x0f3 + 1) fun v7 =>
      lti (x1.toInt8.toInt32) fun v8 =>
      gd x0r0n x0f3 fun i9 =>
      lt (va_up x0r0c i9 ((v8 : Int32).toInt8.toInt32)) fun f10 =>
      some (v7, f10)
    else
      none
    )
  else
    none
  )
theorem hd_J21_append_3_A : Hd yJ21_append_3 1 := by unfold Hd; decide +kernel
set_option maxHeartbeats 4000000 in
set_option maxRecDepth 100000 in
theorem m_J21_append_3_A {l : Launch} {D : DD} (x0 : Nat) (x0r0 : Nat)  (x0r0n : Nat) (x0r0c : Nat → Int32) (x0f3 : Int32) (x1 : Int32) (r : Int32 × (Nat → Int32)) (h : f_J21_append_3_A x0r0n x0r0c x0f3 x1 = some r) : MT l D yJ21_append_3 cJ21_append_3 2 (some (.object "java/lang/AbstractStringBuilder")) 1 22 0 0 [.ref x0, .int x1] (fun H => ON D 4 x0 [.ref x0r0, .int 0, .int 0, .int x0f3] H ∧ dB D ≤ x0 ∧ aB D x0r0 x0r0n x0r0c H ∧ x0r0n ≤ 1000000 ∧ dB D ≤ x0r0 ∧ x0 ≠ x0r0) (pR (fun H b H' => b = x0 ∧ ON D 4 x0 [.ref x0r0, .int 0, .int 0, .int r.1] H' ∧ aB D x0r0 x0r0n r.2 H' ∧ Off (fun a => a = x0 ∨ a = x0r0) H H')) := by
  refine MT.start (by decide +kernel) (Nat.le_of_ble_eq_true rfl) ?_
  intro p e s m below meth c ls hC hS hp hl
  obtain ⟨h_x0, hB_h_x0, h_x0r0, l_x0r0, hB_h_x0r0, ne_x0_x0r0⟩ := hp
  obtain ⟨hx, hb, hr, hlk, hml, hown, hts, hnm⟩ := id hC
  have hl : lv_has ls 2 [(0, .ref x0), (1, .int x1)] := hl
  unfold f_J21_append_3_A at h
  have hS0 := hS
  obtain ⟨A, eA⟩ : ∃ A : Array Value, A = [.ref x0, .int x1].toArray := ⟨_, rfl⟩
  rw [← eA] at hC hts ⊢
  obtain ⟨Q, eQ⟩ : ∃ Q : State → Prop, Q = MQ below (TQ D (pR (fun H b H' => b = x0 ∧ ON D 4 x0 [.ref x0r0, .int 0, .int 0, .int r.1] H' ∧ aB D x0r0 x0r0n r.2 H' ∧ Off (fun a => a = x0 ∨ a = x0r0) H H'))) A s 0 0 (fun q => dB D ≤ q) := ⟨_, rfl⟩
  have hF : Off (fun a => a = x0 ∨ a = x0r0) s.heap s.heap := Off.rf
  show W p l e R_J21_append_3_A s m A below meth c s.heap [] 0 0 _ _
  rw [← eQ]
  obtain ⟨H, eH⟩ : ∃ H : Heap, H = s.heap := ⟨_, rfl⟩
  obtain ⟨locs, eLc⟩ : ∃ L : List Loc, L = [] := ⟨_, rfl⟩
  have lt_h_x0 := h_x0.lt
  have lt_h_x0r0 := h_x0r0.lt
  rw [← eH, ← eLc]
  have hF : Off (fun a => a = x0 ∨ a = x0r0) s.heap H := by rw [eH]; exact hF
  rw [← eH] at h_x0
  rw [← eH] at h_x0r0
  have hS : St D s H locs := by rw [eH, eLc]; exact hS
  refine lv_aload_n hx hb dJ21_append_3_0 rfl (lv_at hl 0 rfl) ?_
  refine lv_aload_n hx hb dJ21_append_3_1 rfl (lv_at hl 0 rfl) ?_
  refine r_get hx hb hts hown hS h_x0.OA rfl in_J22 3 (by decide) q555 rfl (v := .int x0f3) rfl dJ21_append_3_2 ?_
  refine lv_iconst (v := 1) hx hb dJ21_append_3_5 (by decide) ?_
  obtain ⟨v1, ev1, h⟩ := lti_step h
  refine r_iadd hx hb ev1 dJ21_append_3_6 ?_
  obtain ⟨o2, eo2, h⟩ := bind_step h
  refine r_cpv (r_runVC (rest := []) (As := [.int v1]) hC 1 (m_J21_ec_A x0 x0r0  x0r0n x0r0c x0f3 v1 o2 eo2) q577 q579 (sel_priv (hts _ q605) rfl ⟨by decide, by decide⟩ (hts _ q579) (priv_at hS q578)) q63 q580 (OA.recv hS h_x0.OA (C := RJ22) rfl) hd_J21_ec_A rfl ⟨Nat.le_of_ble_eq_true rfl, Nat.le_of_ble_eq_true rfl⟩ hS ⟨h_x0, h_x0r0, l_x0r0⟩ hl.1 rfl (Nat.le_of_ble_eq_true rfl) dJ21_append_3_7 ⟨Nat.le_of_ble_eq_true rfl, Nat.le_of_ble_eq_true rfl⟩) ?_
  refine lv_aload_n hx hb dJ21_append_3_10 rfl (lv_at hl 0 rfl) ?_
  obtain ⟨o3, eo3, h⟩ := bind_step h
  refine r_cp (r_runVC (rest := []) (As := []) hC 0 (m_J21_isLatin1 x0 x0r0  x0r0n x0r0c x0f3 o3 eo3) q602 q603 (hts _ q605) q63 q606 (OA.recv hS h_x0.OA (C := RJ22) rfl) hd_J21_isLatin1 rfl ⟨Nat.le_of_ble_eq_true rfl, Nat.le_of_ble_eq_true rfl⟩ hS ⟨h_x0, h_x0r0, l_x0r0⟩ hl.1 rfl (Nat.le_of_ble_eq_true rfl) dJ21_append_3_11 ⟨Nat.le_of_ble_eq_true rfl, Nat.le_of_ble_eq_true rfl⟩) ?_
  refine r_ifz_eq (tgt := 45) hx hb dJ21_append_3_14 (by decide) (fun c4 => ?_) (fun c4 => ?_)
  · have h := it_neg h (by rw [c4]; decide)
    cases h
  · have h := it_pos h (by rw [c4])
    refine lv_iload_n hx hb dJ21_append_3_17 rfl (lv_at hl 1 rfl) ?_
    obtain ⟨o5, eo5, h⟩ := bind_step h
    refine r_cp (r_runS (rest := []) (As := [.int x1]) hC 1 (m_J25_canEncode   x1 o5 eo5) q990 q991 q67 q992 hd_J25_canEncode rfl ⟨Nat.le_of_ble_eq_true rfl, Nat.le_of_ble_eq_true rfl⟩ hS trivial hl.1 rfl (Nat.le_of_ble_eq_true rfl) dJ21_append_3_18 ⟨Nat.le_of_ble_eq_true rfl, Nat.le_of_ble_eq_true rfl⟩) ?_
    refine r_ifz_eq (tgt := 45) hx hb dJ21_append_3_21 (by decide) (fun c6 => ?_) (fun c6 => ?_)
    · have h := it_neg h (by rw [c6]; decide)
      cases h
    · have h := it_pos h (by rw [c6])
      refine lv_aload_n hx hb dJ21_append_3_24 rfl (lv_at hl 0 rfl) ?_
      refine r_get hx hb hts hown hS h_x0.OA rfl in_J22 0 (by decide) q552 rfl (v := .ref x0r0) rfl dJ21_append_3_25 ?_
      refine lv_aload_n hx hb dJ21_append_3_28 rfl (lv_at hl 0 rfl) ?_
      refine lv_dup hx hb dJ21_append_3_29 rfl ?_
      refine r_get hx hb hts hown hS h_x0.OA rfl in_J22 3 (by decide) q555 rfl (v := .int x0f3) rfl dJ21_append_3_30 ?_
      refine lv_dup_x1 hx hb dJ21_append_3_33 rfl rfl ?_
      refine lv_iconst (v := 1) hx hb dJ21_append_3_34 (by decide) ?_
      obtain ⟨v7, ev7, h⟩ := lti_step h
      refine r_iadd hx hb ev7 dJ21_append_3_35 ?_
      refine r_put hx hb hts hown hS h_x0 hB_h_x0 rfl in_J22 tyJ22 tyJ22_ok nmJ22 3 (Nat.le_of_ble_eq_true rfl) rfl q555 rfl rfl (v := .int v7) rfl (by rfl) dJ21_append_3_36 (fun H locs hS hO h_x0 => ?_)
      have h_x0 : ON D 4 x0 [.ref x0r0, .int 0, .int 0, .int v7] H := h_x0
      have h_x0r0 := h_x0r0.off hO (Ne.symm ne_x0_x0r0)
      have hF := hF.fresh hO (fun a ha z => Or.inl z)
      refine lv_iload_n hx hb dJ21_append_3_39 rfl (lv_at hl 1 rfl) ?_
      obtain ⟨v8, ev8, h⟩ := lti_step h
      refine r_i2b hx hb ev8 dJ21_append_3_40 ?_
      obtain ⟨i9, xi9, h⟩ := gd_step (nl0 l_x0r0) h
      obtain ⟨f10, ef10, h⟩ := lt_step h
      refine r_bast hx hb hS h_x0r0 hB_h_x0r0 i9 xi9 dJ21_append_3_41 (fun H locs hS hO h_x0r0 => ?_)
      have h_x0r0 : aB D x0r0 x0r0n f10 H := by rw [ef10]; exact h_x0r0
      have h_x0 := h_x0.off hO ne_x0_x0r0
      have hF := hF.fresh hO (fun a ha z => Or.inr (z))
      refine lv_goto (tgt := 75) hx hb dJ21_append_3_42 (by decide) ?_
      refine lv_aload_n hx hb dJ21_append_3_75 rfl (lv_at hl 0 rfl) ?_
      obtain rfl := Option.some.inj h
      rw [eQ]
      exact r_aret hx hb hr (Or.inl ⟨_, rfl⟩) hlk hS (Nat.le_of_ble_eq_true rfl) (Nat.le_of_ble_eq_true rfl) dJ21_append_3_76 ⟨_, rfl, rfl, h_x0, h_x0r0, hF⟩

abbrev R_J22_append_3_A : Room := { frames := 2, cells := 0, slots := 0, locals := 43 }
noncomputable def f_J22_append_3_A (x0r0n : Nat) (x0r0c : Nat → Int32) (x0f3 : Int32) (x1 : Int32) : Option (Int32 × (Nat → Int32)) :=
  Option.bind (f_J21_append_3_A x0r0n x0r0c x0f3 x1) fun o1 =>
  some (o1.1, o1.2)
theorem hd_J22_append_3_A : Hd yJ22_append_3 1 := by unfold Hd; decide +kernel
set_option maxHeartbeats 4000000 in
set_option maxRecDepth 100000 in
theorem m_J22_append_3_A {l : Launch} {D : DD} (x0 : Nat) (x0r0 : Nat)  (x0r0n : Nat) (x0r0c : Nat → Int32) (x0f3 : Int32) (x1 : Int32) (r : Int32 × (Nat → Int32)) (h : f_J22_append_3_A x0r0n x0r0c x0f3 x1 = some r) : MT l D yJ22_append_3 cJ22_append_3 2 (some (.object "java/lang/StringBuilder")) 2 43 0 0 [.ref x0, .int x1] (fun H => ON D 4 x0 [.ref x0r0, .int 0, .int 0, .int x0f3] H ∧ dB D ≤ x0 ∧ aB D x0r0 x0r0n x0r0c H ∧ x0r0n ≤ 1000000 ∧ dB D ≤ x0r0 ∧ x0 ≠ x0r0) (pR (fun H b H' => b = x0 ∧ ON D 4 x0 [.ref x0r0, .int 0, .int 0, .int r.1] H' ∧ aB D x0r0 x0r0n r.2 H' ∧ Off (fun a => a = x0 ∨ a = x0r0) H H')) := by
  refine MT.start (by decide +kernel) (Nat.le_of_ble_eq_true rfl) ?_
  intro p e s m below meth c ls hC hS hp hl
  obtain ⟨h_x0, hB_h_x0, h_x0r0, l_x0r0, hB_h_x0r0, ne_x0_x0r0⟩ := hp
  obtain ⟨hx, hb, hr, hlk, hml, hown, hts, hnm⟩ := id hC
  have hl : lv_has ls 2 [(0, .ref x0), (1, .int x1)] := hl
  unfold f_J22_append_3_A at h
  have hS0 := hS
  obtain ⟨A, eA⟩ : ∃ A : Array Value, A = [.ref x0, .int x1].toArray := ⟨_, rfl⟩
  rw [← eA] at hC hts ⊢
  obtain ⟨Q, eQ⟩ : ∃ Q : State → Prop, Q = MQ below (TQ D (pR (fun H b H' => b = x0 ∧ ON D 4 x0 [.ref x0r0, .int 0, .int 0, .int r.1] H' ∧ aB D x0r0 x0r0n r.2 H' ∧ Off (fun a => a = x0 ∨ a = x0r0) H H'))) A s 0 0 (fun q => dB D ≤ q) := ⟨_, rfl⟩
  have hF : Off (fun a => a = x0 ∨ a = x0r0) s.heap s.heap := Off.rf
  show W p l e R_J22_append_3_A s m A below meth c s.heap [] 0 0 _ _
  rw [← eQ]
  obtain ⟨H, eH⟩ : ∃ H : Heap, H = s.heap := ⟨_, rfl⟩
  obtain ⟨locs, eLc⟩ : ∃ L : List Loc, L = [] := ⟨_, rfl⟩
  have lt_h_x0 := h_x0.lt
  have lt_h_x0r0 := h_x0r0.lt
  rw [← eH, ← eLc]
  have hF : Off (fun a => a = x0 ∨ a = x0r0) s.heap H := by rw [eH]; exact hF
  rw [← eH] at h_x0
  rw [← eH] at h_x0r0
  have hS : St D s H locs := by rw [eH, eLc]; exact hS
  refine lv_aload_n hx hb dJ22_append_3_0 rfl (lv_at hl 0 rfl) ?_
  refine lv_iload_n hx hb dJ22_append_3_1 rfl (lv_at hl 1 rfl) ?_
  obtain ⟨o1, eo1, h⟩ := bind_step h
  refine r_cr (r_runSU (k := 4) (rest := []) (As := [.int x1]) hC 1 rfl (m_J21_append_3_A x0 x0r0  x0r0n x0r0c x0f3 x1 o1 eo1) q987 q1782 q564 q988 q63 q989 (OA.recv hS h_x0.OA (C := RJ22) rfl) hd_J21_append_3_A (by decide) rfl ⟨Nat.le_of_ble_eq_true rfl, Nat.le_of_ble_eq_true rfl⟩ hS ⟨h_x0, hB_h_x0, h_x0r0, l_x0r0, hB_h_x0r0, ne_x0_x0r0⟩ hl.1 rfl (Nat.le_of_ble_eq_true rfl) dJ22_append_3_2 ⟨Nat.le_of_ble_eq_true rfl, Nat.le_of_ble_eq_true rfl⟩) hS (fun b H locs hp hS hz => ?_)
  obtain ⟨eb_, h_x0, h_x0r0, hO⟩ := hp
  rw [eb_]
  have hF := hF.fresh hO (fun a ha z => by
    rcases z with z | z
    · exact Or.inl z
    · exact Or.inr (z))
  refine lv_pop hx hb dJ22_append_3_5 rfl ?_
  refine lv_aload_n hx hb dJ22_append_3_6 rfl (lv_at hl 0 rfl) ?_
  obtain rfl := Option.some.inj h
  rw [eQ]
  exact r_aret hx hb hr (Or.inl ⟨_, rfl⟩) hlk hS (Nat.le_of_ble_eq_true rfl) (Nat.le_of_ble_eq_true rfl) dJ22_append_3_7 ⟨_, rfl, rfl, h_x0, h_x0r0, hF⟩

abbrev R_J21_append_4_A : Room := { frames := 1, cells := 0, slots := 0, locals := 30 }
noncomputable def f_J21_append_4_A (x0r0n : Nat) (x0r0c : Nat → Int32) (x0f3 : Int32) (x1 : Int64) : Option (Int32 × (Nat → Int32)) :=
  Option.bind (f_J27_stringSize x1) fun o1 =>
  lti (x0f3 + o1) fun v2 =>
  Option.bind (f_J21_ec_A x0r0n x0r0c x0f3 v2) fun o3 =>
  Option.bind (f_J21_isLatin1 x0r0n x0r0c x0f3) fun o4 =>
  (if o4 = true then
    Option.bind (f_J27_getChars x1 v2 x0r0n x0r0c) fun o6 =>
    some (v2, o6.2)
  else
    none
  )
theorem hd_J21_append_4_A : Hd yJ21_append_4 1 := by unfold Hd; decide +kernel
set_option maxHeartbeats 4000000 in
set_option maxRecDepth 100000 in
theorem m_J21_append_4_A {l : Launch} {D : DD} (x0 : Nat) (x0r0 : Nat)  (x0r0n : Nat) (x0r0c : Nat → Int32) (x0f3 : Int32) (x1 : Int64) (r : Int32 × (Nat → Int32)) (h : f_J21_append_4_A x0r0n x0r0c x0f3 x1 = some r) : MT l D yJ21_append_4 cJ21_append_4 5 (some (.object "java/lang/AbstractStringBuilder")) 1 30 0 0 [.ref x0, .long x1] (fun H => ON D 4 x0 [.ref x0r0, .int 0, .int 0, .int x0f3] H ∧ dB D ≤ x0 ∧ aB D x0r0 x0r0n x0r0c H ∧ x0r0n ≤ 1000000 ∧ dB D ≤ x0r0 ∧ x0 ≠ x0r0) (pR (fun H b H' => b = x0 ∧ ON D 4 x0 [.ref x0r0, .int 0, .int 0, .int r.1] H' ∧ aB D x0r0 x0r0n r.2 H' ∧ Off (fun a => a = x0 ∨ a = x0r0) H H')) := by
  refine MT.start (by decide +kernel) (Nat.le_of_ble_eq_true rfl) ?_
  intro p e s m below meth c ls hC hS hp hl
  obtain ⟨h_x0, hB_h_x0, h_x0r0, l_x0r0, hB_h_x0r0, ne_x0_x0r0⟩ := hp
  obtain ⟨hx, hb, hr, hlk, hml, hown, hts, hnm⟩ := id hC
  have hl : lv_has ls 5 [(0, .ref x0), (1, .long x1)] := hl
  unfold f_J21_append_4_A at h
  have hS0 := hS
  obtain ⟨A, eA⟩ : ∃ A : Array Value, A = [.ref x0, .long x1].toArray := ⟨_, rfl⟩
  rw [← eA] at hC hts ⊢
  obtain ⟨Q, eQ⟩ : ∃ Q : State → Prop, Q = MQ below (TQ D (pR (fun H b H' => b = x0 ∧ ON D 4 x0 [.ref x0r0, .int 0, .int 0, .int r.1] H' ∧ aB D x0r0 x0r0n r.2 H' ∧ Off (fun a => a = x0 ∨ a = x0r0) H H'))) A s 0 0 (fun q => dB D ≤ q) := ⟨_, rfl⟩
  have hF : Off (fun a => a = x0 ∨ a = x0r0) s.heap s.heap := Off.rf
  show W p l e R_J21_append_4_A s m A below meth c s.heap [] 0 0 _ _
  rw [← eQ]
  obtain ⟨H, eH⟩ : ∃ H : Heap, H = s.heap := ⟨_, rfl⟩
  obtain ⟨locs, eLc⟩ : ∃ L : List Loc, L = [] := ⟨_, rfl⟩
  have lt_h_x0 := h_x0.lt
  have lt_h_x0r0 := h_x0r0.lt
  rw [← eH, ← eLc]
  have hF : Off (fun a => a = x0 ∨ a = x0r0) s.heap H := by rw [eH]; exact hF
  rw [← eH] at h_x0
  rw [← eH] at h_x0r0
  have hS : St D s H locs := by rw [eH, eLc]; exact hS
  refine lv_aload_n hx hb dJ21_append_4_0 rfl (lv_at hl 0 rfl) ?_
  refine r_get hx hb hts hown hS h_x0.OA rfl in_J22 3 (by decide) q555 rfl (v := .int x0f3) rfl dJ21_append_4_1 ?_
  refine lv_istore_n (lv' := [(3, .int x0f3), (0, .ref x0), (1, .long x1)]) hx hb dJ21_append_4_4 rfl hl (by decide) rfl (fun ls hl => ?_)
  refine lv_iload_n hx hb dJ21_append_4_5 rfl (lv_at hl 0 rfl) ?_
  refine lv_lload_n hx hb dJ21_append_4_6 rfl (lv_at hl 2 rfl) ?_
  obtain ⟨o1, eo1, h⟩ := bind_step h
  refine r_cp (r_runS (rest := [.int x0f3]) (As := [.long x1]) hC 1 (m_J27_stringSize   x1 o1 eo1) q1012 q1013 q69 q1014 hd_J27_stringSize rfl ⟨Nat.le_of_ble_eq_true rfl, Nat.le_of_ble_eq_true rfl⟩ hS trivial hl.1 rfl (Nat.le_of_ble_eq_true rfl) dJ21_append_4_7 ⟨Nat.le_of_ble_eq_true rfl, Nat.le_of_ble_eq_true rfl⟩) ?_
  obtain ⟨v2, ev2, h⟩ := lti_step h
  refine r_iadd hx hb ev2 dJ21_append_4_10 ?_
  refine lv_istore (lv' := [(4, .int v2), (3, .int x0f3), (0, .ref x0), (1, .long x1)]) hx hb dJ21_append_4_11 hl (by decide) rfl (fun ls hl => ?_)
  refine lv_aload_n hx hb dJ21_append_4_13 rfl (lv_at hl 2 rfl) ?_
  refine lv_iload hx hb dJ21_append_4_14 (lv_at hl 0 rfl) ?_
  obtain ⟨o3, eo3, h⟩ := bind_step h
  refine r_cpv (r_runVC (rest := []) (As := [.int v2]) hC 1 (m_J21_ec_A x0 x0r0  x0r0n x0r0c x0f3 v2 o3 eo3) q577 q579 (sel_priv (hts _ q605) rfl ⟨by decide, by decide⟩ (hts _ q579) (priv_at hS q578)) q63 q580 (OA.recv hS h_x0.OA (C := RJ22) rfl) hd_J21_ec_A rfl ⟨Nat.le_of_ble_eq_true rfl, Nat.le_of_ble_eq_true rfl⟩ hS ⟨h_x0, h_x0r0, l_x0r0⟩ hl.1 rfl (Nat.le_of_ble_eq_true rfl) dJ21_append_4_16 ⟨Nat.le_of_ble_eq_true rfl, Nat.le_of_ble_eq_true rfl⟩) ?_
  refine lv_aload_n hx hb dJ21_append_4_19 rfl (lv_at hl 2 rfl) ?_
  obtain ⟨o4, eo4, h⟩ := bind_step h
  refine r_cp (r_runVC (rest := []) (As := []) hC 0 (m_J21_isLatin1 x0 x0r0  x0r0n x0r0c x0f3 o4 eo4) q602 q603 (hts _ q605) q63 q606 (OA.recv hS h_x0.OA (C := RJ22) rfl) hd_J21_isLatin1 rfl ⟨Nat.le_of_ble_eq_true rfl, Nat.le_of_ble_eq_true rfl⟩ hS ⟨h_x0, h_x0r0, l_x0r0⟩ hl.1 rfl (Nat.le_of_ble_eq_true rfl) dJ21_append_4_20 ⟨Nat.le_of_ble_eq_true rfl, Nat.le_of_ble_eq_true rfl⟩) ?_
  refine r_ifz_eq (tgt := 40) hx hb dJ21_append_4_23 (by decide) (fun c5 => ?_) (fun c5 => ?_)
  · have h := it_neg h (by rw [c5]; decide)
    cases h
  · have h := it_pos h (by rw [c5])
    refine lv_lload_n hx hb dJ21_append_4_26 rfl (lv_at hl 3 rfl) ?_
    refine lv_iload hx hb dJ21_append_4_27 (lv_at hl 0 rfl) ?_
    refine lv_aload_n hx hb dJ21_append_4_29 rfl (lv_at hl 2 rfl) ?_
    refine r_get hx hb hts hown hS h_x0.OA rfl in_J22 0 (by decide) q552 rfl (v := .ref x0r0) rfl dJ21_append_4_30 ?_
    obtain ⟨o6, eo6, h⟩ := bind_step h
    refine r_ci (r_runS (rest := []) (As := [.long x1, .int v2, .ref x0r0]) hC 3 (m_J27_getChars x0r0  x1 v2 x0r0n x0r0c o6 eo6) q1017 q1018 q69 q1019 hd_J27_getChars rfl ⟨Nat.le_of_ble_eq_true rfl, Nat.le_of_ble_eq_true rfl⟩ hS ⟨h_x0r0, l_x0r0, hB_h_x0r0⟩ hl.1 rfl (Nat.le_of_ble_eq_true rfl) dJ21_append_4_33 ⟨Nat.le_of_ble_eq_true rfl, Nat.le_of_ble_eq_true rfl⟩) hS (fun b H locs hp hS hz => ?_)
    obtain ⟨rfl, h_x0r0, hO⟩ := hp
    have h_x0 := h_x0.off hO ne_x0_x0r0
    have hF := hF.fresh hO (fun a ha z => Or.inr (z))
    refine lv_pop hx hb dJ21_append_4_36 rfl ?_
    refine lv_goto (tgt := 52) hx hb dJ21_append_4_37 (by decide) ?_
    refine lv_aload_n hx hb dJ21_append_4_52 rfl (lv_at hl 2 rfl) ?_
    refine lv_iload hx hb dJ21_append_4_53 (lv_at hl 0 rfl) ?_
    refine r_put hx hb hts hown hS h_x0 hB_h_x0 rfl in_J22 tyJ22 tyJ22_ok nmJ22 3 (Nat.le_of_ble_eq_true rfl) rfl q555 rfl rfl (v := .int v2) rfl (by rfl) dJ21_append_4_55 (fun H locs hS hO h_x0 => ?_)
    have h_x0 : ON D 4 x0 [.ref x0r0, .int 0, .int 0, .int v2] H := h_x0
    have h_x0r0 := h_x0r0.off hO (Ne.symm ne_x0_x0r0)
    have hF := hF.fresh hO (fun a ha z => Or.inl z)
    refine lv_aload_n hx hb dJ21_append_4_58 rfl (lv_at hl 2 rfl) ?_
    obtain rfl := Option.some.inj h
    rw [eQ]
    exact r_aret hx hb hr (Or.inl ⟨_, rfl⟩) hlk hS (Nat.le_of_ble_eq_true rfl) (Nat.le_of_ble_eq_true rfl) dJ21_append_4_59 ⟨_, rfl, rfl, h_x0, h_x0r0, hF⟩

abbrev R_J22_append_4_A : Room := { frames := 2, cells := 0, slots := 0, locals := 54 }
noncomputable def f_J22_append_4_A (x0r0n : Nat) (x0r0c : Nat → Int32) (x0f3 : Int32) (x1 : Int64) : Option (Int32 × (Nat → Int32)) :=
  Option.bind (f_J21_append_4_A x0r0n x0r0c x0f3 x1) fun o1 =>
  some (o1.1, o1.2)
theorem hd_J22_append_4_A : Hd yJ22_append_4 1 := by unfold Hd; decide +kernel
set_option maxHeartbeats 4000000 in
set_option maxRecDepth 100000 in
theorem m_J22_append_4_A {l : Launch} {D : DD} (x0 : Nat) (x0r0 : Nat)  (x0r0n : Nat) (x0r0c : Nat → Int32) (x0f3 : Int32) (x1 : Int64) (r : Int32 × (Nat → Int32)) (h : f_J22_append_4_A x0r0n x0r0c x0f3 x1 = some r) : MT l D yJ22_append_4 cJ22_append_4 3 (some (.object "java/lang/StringBuilder")) 2 54 0 0 [.ref x0, .long x1] (fun H => ON D 4 x0 [.ref x0r0, .int 0, .int 0, .int x0f3] H ∧ dB D ≤ x0 ∧ aB D x0r0 x0r0n x0r0c H ∧ x0r0n ≤ 1000000 ∧ dB D ≤ x0r0 ∧ x0 ≠ x0r0) (pR (fun H b H' => b = x0 ∧ ON D 4 x0 [.ref x0r0, .int 0, .int 0, .int r.1] H' ∧ aB D x0r0 x0r0n r.2 H' ∧ Off (fun a => a = x0 ∨ a = x0r0) H H')) := by
  refine MT.start (by decide +kernel) (Nat.le_of_ble_eq_true rfl) ?_
  intro p e s m below meth c ls hC hS hp hl
  obtain ⟨h_x0, hB_h_x0, h_x0r0, l_x0r0, hB_h_x0r0, ne_x0_x0r0⟩ := hp
  obtain ⟨hx, hb, hr, hlk, hml, hown, hts, hnm⟩ := id hC
  have hl : lv_has ls 3 [(0, .ref x0), (1, .long x1)] := hl
  unfold f_J22_append_4_A at h
  have hS0 := hS
  obtain ⟨A, eA⟩ : ∃ A : Array Value, A = [.ref x0, .long x1].toArray := ⟨_, rfl⟩
  rw [← eA] at hC hts ⊢
  obtain ⟨Q, eQ⟩ : ∃ Q : State → Prop, Q = MQ below (TQ D (pR (fun H b H' => b = x0 ∧ ON D 4 x0 [.ref x0r0, .int 0, .int 0, .int r.1] H' ∧ aB D x0r0 x0r0n r.2 H' ∧ Off (fun a => a = x0 ∨ a = x0r0) H H'))) A s 0 0 (fun q => dB D ≤ q) := ⟨_, rfl⟩
  have hF : Off (fun a => a = x0 ∨ a = x0r0) s.heap s.heap := Off.rf
  show W p l e R_J22_append_4_A s m A below meth c s.heap [] 0 0 _ _
  rw [← eQ]
  obtain ⟨H, eH⟩ : ∃ H : Heap, H = s.heap := ⟨_, rfl⟩
  obtain ⟨locs, eLc⟩ : ∃ L : List Loc, L = [] := ⟨_, rfl⟩
  have lt_h_x0 := h_x0.lt
  have lt_h_x0r0 := h_x0r0.lt
  rw [← eH, ← eLc]
  have hF : Off (fun a => a = x0 ∨ a = x0r0) s.heap H := by rw [eH]; exact hF
  rw [← eH] at h_x0
  rw [← eH] at h_x0r0
  have hS : St D s H locs := by rw [eH, eLc]; exact hS
  refine lv_aload_n hx hb dJ22_append_4_0 rfl (lv_at hl 0 rfl) ?_
  refine lv_lload_n hx hb dJ22_append_4_1 rfl (lv_at hl 1 rfl) ?_
  obtain ⟨o1, eo1, h⟩ := bind_step h
  refine r_cr (r_runSU (k := 4) (rest := []) (As := [.long x1]) hC 1 rfl (m_J21_append_4_A x0 x0r0  x0r0n x0r0c x0f3 x1 o1 eo1) q1009 q1783 q564 q1010 q63 q1011 (OA.recv hS h_x0.OA (C := RJ22) rfl) hd_J21_append_4_A (by decide) rfl ⟨Nat.le_of_ble_eq_true rfl, Nat.le_of_ble_eq_true rfl⟩ hS ⟨h_x0, hB_h_x0, h_x0r0, l_x0r0, hB_h_x0r0, ne_x0_x0r0⟩ hl.1 rfl (Nat.le_of_ble_eq_true rfl) dJ22_append_4_2 ⟨Nat.le_of_ble_eq_true rfl, Nat.le_of_ble_eq_true rfl⟩) hS (fun b H locs hp hS hz => ?_)
  obtain ⟨eb_, h_x0, h_x0r0, hO⟩ := hp
  rw [eb_]
  have hF := hF.fresh hO (fun a ha z => by
    rcases z with z | z
    · exact Or.inl z
    · exact Or.inr (z))
  refine lv_pop hx hb dJ22_append_4_5 rfl ?_
  refine lv_aload_n hx hb dJ22_append_4_6 rfl (lv_at hl 0 rfl) ?_
  obtain rfl := Option.some.inj h
  rw [eQ]
  exact r_aret hx hb hr (Or.inl ⟨_, rfl⟩) hlk hS (Nat.le_of_ble_eq_true rfl) (Nat.le_of_ble_eq_true rfl) dJ22_append_4_7 ⟨_, rfl, rfl, h_x0, h_x0r0, hF⟩

abbrev R_J21_append_4_B : Room := { frames := 4, cells := 1, slots := 40, locals := 91 }
noncomputable def f_J21_append_4_B (x0r0n : Nat) (x0r0c : Nat → Int32) (x0f3 : Int32) (x1 : Int64) : Option (Int32 × Nat × (Nat → Int32)) :=
  Option.bind (f_J27_stringSize x1) fun o1 =>
  lti (x0f3 + o1) fun v2 =>
  Option.bind (f_J21_ec_B x0r0n x0r0c x0f3 v2) fun o3 =>
  Option.bind (f_J21_isLatin1 o3.1 o3.2 x0f3) fun o5 =>
  (if o5 = true then
    Option.bind (f_J27_getChars x1 v2 o3.1 o3.2) fun o7 =>
    some (v2, o3.1, o7.2)
  else
    none
  )
theorem hd_J21_append_4_B : Hd yJ21_append_4 1 := by unfold Hd; decide +kernel
set_option maxHeartbeats 4000000 in
set_option maxRecDepth 100000 in
theorem m_J21_append_4_B {l : Launch} {D : DD} (x0 : Nat) (x0r0 : Nat)  (x0r0n : Nat) (x0r0c : Nat → Int32) (x0f3 : Int32) (x1 : Int64) (r : Int32 × Nat × (Nat → Int32)) (h : f_J21_append_4_B x0r0n x0r0c x0f3 x1 = some r) : MT l D yJ21_append_4 cJ21_append_4 5 (some (.object "java/lang/AbstractStringBuilder")) 4 91 1 40 [.ref x0, .long x1] (fun H => ON D 4 x0 [.ref x0r0, .int 0, .int 0, .int x0f3] H ∧ dB D ≤ x0 ∧ aB D x0r0 x0r0n x0r0c H ∧ x0r0n ≤ 1000000 ∧ x0 ≠ x0r0) (pR (fun H b H' => b = x0 ∧ ∃ mx0_0 : Nat, ON D 4 x0 [.ref mx0_0, .int 0, .int 0, .int r.1] H' ∧ aB D mx0_0 r.2.1 r.2.2 H' ∧ r.2.1 ≤ 1000000 ∧ H.size ≤ mx0_0 ∧ Off (fun a => a = x0) H H')) := by
  refine MT.start (by decide +kernel) (Nat.le_of_ble_eq_true rfl) ?_
  intro p e s m below meth c ls hC hS hp hl
  obtain ⟨h_x0, hB_h_x0, h_x0r0, l_x0r0, ne_x0_x0r0⟩ := hp
  obtain ⟨hx, hb, hr, hlk, hml, hown, hts, hnm⟩ := id hC
  have hl : lv_has ls 5 [(0, .ref x0), (1, .long x1)] := hl
  unfold f_J21_append_4_B at h
  have hS0 := hS
  obtain ⟨A, eA⟩ : ∃ A : Array Value, A = [.ref x0, .long x1].toArray := ⟨_, rfl⟩
  rw [← eA] at hC hts ⊢
  obtain ⟨Q, eQ⟩ : ∃ Q : State → Prop, Q = MQ below (TQ D (pR (fun H b H' => b = x0 ∧ ∃ mx0_0 : Nat, ON D 4 x0 [.ref mx0_0, .int 0, .int 0, .int r.1] H' ∧ aB D mx0_0 r.2.1 r.2.2 H' ∧ r.2.1 ≤ 1000000 ∧ H.size ≤ mx0_0 ∧ Off (fun a => a = x0) H H'))) A s 1 40 (fun q => dB D ≤ q) := ⟨_, rfl⟩
  have hF : Off (fun a => a = x0) s.heap s.heap := Off.rf
  show W p l e R_J21_append_4_B s m A below meth c s.heap [] 0 0 _ _
  rw [← eQ]
  obtain ⟨H, eH⟩ : ∃ H : Heap, H = s.heap := ⟨_, rfl⟩
  obtain ⟨locs, eLc⟩ : ∃ L : List Loc, L = [] := ⟨_, rfl⟩
  have lt_h_x0 := h_x0.lt
  have lt_h_x0r0 := h_x0r0.lt
  rw [← eH, ← eLc]
  have hF : Off (fun a => a = x0) s.heap H := by rw [eH]; exact hF
  rw [← eH] at h_x0
  rw [← eH] at h_x0r0
  have hS : St D s H locs := by rw [eH, eLc]; exact hS
  refine lv_aload_n hx hb dJ21_append_4_0 rfl (lv_at hl 0 rfl) ?_
  refine r_get hx hb hts hown hS h_x0.OA rfl in_J22 3 (by decide) q555 rfl (v := .int x0f3) rfl dJ21_append_4_1 ?_
  refine lv_istore_n (lv' := [(3, .int x0f3), (0, .ref x0), (1, .long x1)]) hx hb dJ21_append_4_4 rfl hl (by decide) rfl (fun ls hl => ?_)
  refine lv_iload_n hx hb dJ21_append_4_5 rfl (lv_at hl 0 rfl) ?_
  refine lv_lload_n hx hb dJ21_append_4_6 rfl (lv_at hl 2 rfl) ?_
  obtain ⟨o1, eo1, h⟩ := bind_step h
  refine r_cp (r_runS (rest := [.int x0f3]) (As := [.long x1]) hC 1 (m_J27_stringSize   x1 o1 eo1) q1012 q1013 q69 q1014 hd_J27_stringSize rfl ⟨Nat.le_of_ble_eq_true rfl, Nat.le_of_ble_eq_true rfl⟩ hS trivial hl.1 rfl (Nat.le_of_ble_eq_true rfl) dJ21_append_4_7 ⟨Nat.le_of_ble_eq_true rfl, Nat.le_of_ble_eq_true rfl⟩) ?_
  obtain ⟨v2, ev2, h⟩ := lti_step h
  refine r_iadd hx hb ev2 dJ21_append_4_10 ?_
  refine lv_istore (lv' := [(4, .int v2), (3, .int x0f3), (0, .ref x0), (1, .long x1)]) hx hb dJ21_append_4_11 hl (by decide) rfl (fun ls hl => ?_)
  refine lv_aload_n hx hb dJ21_append_4_13 rfl (lv_at hl 2 rfl) ?_
  refine lv_iload hx hb dJ21_append_4_14 (lv_at hl 0 rfl) ?_
  obtain ⟨o3, eo3, h⟩ := bind_step h
  have ltp_h_x0 := h_x0.lt
  refine r_cv (r_runVC (rest := []) (As := [.int v2]) hC 1 (m_J21_ec_B x0 x0r0  x0r0n x0r0c x0f3 v2 o3 eo3) q577 q579 (sel_priv (hts _ q605) rfl ⟨by decide, by decide⟩ (hts _ q579) (priv_at hS q578)) q63 q580 (OA.recv hS h_x0.OA (C := RJ22) rfl) hd_J21_ec_B rfl ⟨Nat.le_of_ble_eq_true rfl, Nat.le_of_ble_eq_true rfl⟩ hS ⟨h_x0, hB_h_x0, h_x0r0, l_x0r0, ne_x0_x0r0⟩ hl.1 rfl (Nat.le_of_ble_eq_true rfl) dJ21_append_4_16 ⟨Nat.le_of_ble_eq_true rfl, Nat.le_of_ble_eq_true rfl⟩) hS (fun H locs hp hS hz => ?_)
  obtain ⟨ad4, h_x0, had4, lo3_1, frad4, hO⟩ := hp
  have ne_h_x0_had4 : x0 ≠ ad4 := Nat.ne_of_lt (Nat.lt_of_lt_of_le ltp_h_x0 frad4)
  have ne_h_x0r0_had4 : x0r0 ≠ ad4 := Nat.ne_of_lt (Nat.lt_of_lt_of_le h_x0r0.lt frad4)
  have gad4 : s.heap.size ≤ ad4 := Nat.le_trans hF.1 frad4
  have hB_had4 : dB D ≤ ad4 := by have := hS0.1.2.2.1; omega
  have h_x0r0 := h_x0r0.off hO (Ne.symm ne_x0_x0r0)
  have hF := hF.fresh hO (fun a ha z => z)
  refine lv_aload_n hx hb dJ21_append_4_19 rfl (lv_at hl 2 rfl) ?_
  obtain ⟨o5, eo5, h⟩ := bind_step h
  refine r_cp (r_runVC (rest := []) (As := []) hC 0 (m_J21_isLatin1 x0 ad4  o3.1 o3.2 x0f3 o5 eo5) q602 q603 (hts _ q605) q63 q606 (OA.recv hS h_x0.OA (C := RJ22) rfl) hd_J21_isLatin1 rfl ⟨Nat.le_of_ble_eq_true rfl, Nat.le_of_ble_eq_true rfl⟩ hS ⟨h_x0, had4, lo3_1⟩ hl.1 rfl (Nat.le_of_ble_eq_true rfl) dJ21_append_4_20 ⟨Nat.le_of_ble_eq_true rfl, Nat.le_of_ble_eq_true rfl⟩) ?_
  refine r_ifz_eq (tgt := 40) hx hb dJ21_append_4_23 (by decide) (fun c6 => ?_) (fun c6 => ?_)
  · have h := it_neg h (by rw [c6]; decide)
    cases h
  · have h := it_pos h (by rw [c6])
    refine lv_lload_n hx hb dJ21_append_4_26 rfl (lv_at hl 3 rfl) ?_
    refine lv_iload hx hb dJ21_append_4_27 (lv_at hl 0 rfl) ?_
    refine lv_aload_n hx hb dJ21_append_4_29 rfl (lv_at hl 2 rfl) ?_
    refine r_get hx hb hts hown hS h_x0.OA rfl in_J22 0 (by decide) q552 rfl (v := .ref ad4) rfl dJ21_append_4_30 ?_
    obtain ⟨o7, eo7, h⟩ := bind_step h
    refine r_ci (r_runS (rest := []) (As := [.long x1, .int v2, .ref ad4]) hC 3 (m_J27_getChars ad4  x1 v2 o3.1 o3.2 o7 eo7) q1017 q1018 q69 q1019 hd_J27_getChars rfl ⟨Nat.le_of_ble_eq_true rfl, Nat.le_of_ble_eq_true rfl⟩ hS ⟨had4, lo3_1, hB_had4⟩ hl.1 rfl (Nat.le_of_ble_eq_true rfl) dJ21_append_4_33 ⟨Nat.le_of_ble_eq_true rfl, Nat.le_of_ble_eq_true rfl⟩) hS (fun b H locs hp hS hz => ?_)
    obtain ⟨rfl, had4, hO⟩ := hp
    have h_x0 := h_x0.off hO ne_h_x0_had4
    have h_x0r0 := h_x0r0.off hO ne_h_x0r0_had4
    have hF := hF.fresh hO (fun a ha z => absurd (z ▸ ha) (Nat.not_lt.mpr gad4))
    refine lv_pop hx hb dJ21_append_4_36 rfl ?_
    refine lv_goto (tgt := 52) hx hb dJ21_append_4_37 (by decide) ?_
    refine lv_aload_n hx hb dJ21_append_4_52 rfl (lv_at hl 2 rfl) ?_
    refine lv_iload hx hb dJ21_append_4_53 (lv_at hl 0 rfl) ?_
    refine r_put hx hb hts hown hS h_x0 hB_h_x0 rfl in_J22 tyJ22 tyJ22_ok nmJ22 3 (Nat.le_of_ble_eq_true rfl) rfl q555 rfl rfl (v := .int v2) rfl (by rfl) dJ21_append_4_55 (fun H locs hS hO h_x0 => ?_)
    have h_x0 : ON D 4 x0 [.ref ad4, .int 0, .int 0, .int v2] H := h_x0
    have h_x0r0 := h_x0r0.off hO (Ne.symm ne_x0_x0r0)
    have had4 := had4.off hO (Ne.symm ne_h_x0_had4)
    have hF := hF.fresh hO (fun a ha z => z)
    refine lv_aload_n hx hb dJ21_append_4_58 rfl (lv_at hl 2 rfl) ?_
    obtain rfl := Option.some.inj h
    rw [eQ]
    exact r_aret hx hb hr (Or.inl ⟨_, rfl⟩) hlk hS (Nat.le_of_ble_eq_true rfl) (Nat.le_of_ble_eq_true rfl) dJ21_append_4_59 ⟨_, rfl, rfl, ad4, h_x0, had4, lo3_1, gad4, hF⟩

abbrev R_J22_append_4_B : Room := { frames := 5, cells := 1, slots := 40, locals := 115 }
noncomputable def f_J22_append_4_B (x0r0n : Nat) (x0r0c : Nat → Int32) (x0f3 : Int32) (x1 : Int64) : Option (Int32 × Nat × (Nat → Int32)) :=
  Option.bind (f_J21_append_4_B x0r0n x0r0c x0f3 x1) fun o1 =>
  some (o1.1, o1.2.1, o1.2.2)
theorem hd_J22_append_4_B : Hd yJ22_append_4 1 := by unfold Hd; decide +kernel
set_option maxHeartbeats 4000000 in
set_option maxRecDepth 100000 in
theorem m_J22_append_4_B {l : Launch} {D : DD} (x0 : Nat) (x0r0 : Nat)  (x0r0n : Nat) (x0r0c : Nat → Int32) (x0f3 : Int32) (x1 : Int64) (r : Int32 × Nat × (Nat → Int32)) (h : f_J22_append_4_B x0r0n x0r0c x0f3 x1 = some r) : MT l D yJ22_append_4 cJ22_append_4 3 (some (.object "java/lang/StringBuilder")) 5 115 1 40 [.ref x0, .long x1] (fun H => ON D 4 x0 [.ref x0r0, .int 0, .int 0, .int x0f3] H ∧ dB D ≤ x0 ∧ aB D x0r0 x0r0n x0r0c H ∧ x0r0n ≤ 1000000 ∧ x0 ≠ x0r0) (pR (fun H b H' => b = x0 ∧ ∃ mx0_0 : Nat, ON D 4 x0 [.ref mx0_0, .int 0, .int 0, .int r.1] H' ∧ aB D mx0_0 r.2.1 r.2.2 H' ∧ r.2.1 ≤ 1000000 ∧ H.size ≤ mx0_0 ∧ Off (fun a => a = x0) H H')) := by
  refine MT.start (by decide +kernel) (Nat.le_of_ble_eq_true rfl) ?_
  intro p e s m below meth c ls hC hS hp hl
  obtain ⟨h_x0, hB_h_x0, h_x0r0, l_x0r0, ne_x0_x0r0⟩ := hp
  obtain ⟨hx, hb, hr, hlk, hml, hown, hts, hnm⟩ := id hC
  have hl : lv_has ls 3 [(0, .ref x0), (1, .long x1)] := hl
  unfold f_J22_append_4_B at h
  have hS0 := hS
  obtain ⟨A, eA⟩ : ∃ A : Array Value, A = [.ref x0, .long x1].toArray := ⟨_, rfl⟩
  rw [← eA] at hC hts ⊢
  obtain ⟨Q, eQ⟩ : ∃ Q : State → Prop, Q = MQ below (TQ D (pR (fun H b H' => b = x0 ∧ ∃ mx0_0 : Nat, ON D 4 x0 [.ref mx0_0, .int 0, .int 0, .int r.1] H' ∧ aB D mx0_0 r.2.1 r.2.2 H' ∧ r.2.1 ≤ 1000000 ∧ H.size ≤ mx0_0 ∧ Off (fun a => a = x0) H H'))) A s 1 40 (fun q => dB D ≤ q) := ⟨_, rfl⟩
  have hF : Off (fun a => a = x0) s.heap s.heap := Off.rf
  show W p l e R_J22_append_4_B s m A below meth c s.heap [] 0 0 _ _
  rw [← eQ]
  obtain ⟨H, eH⟩ : ∃ H : Heap, H = s.heap := ⟨_, rfl⟩
  obtain ⟨locs, eLc⟩ : ∃ L : List Loc, L = [] := ⟨_, rfl⟩
  have lt_h_x0 := h_x0.lt
  have lt_h_x0r0 := h_x0r0.lt
  rw [← eH, ← eLc]
  have hF : Off (fun a => a = x0) s.heap H := by rw [eH]; exact hF
  rw [← eH] at h_x0
  rw [← eH] at h_x0r0
  have hS : St D s H locs := by rw [eH, eLc]; exact hS
  refine lv_aload_n hx hb dJ22_append_4_0 rfl (lv_at hl 0 rfl) ?_
  refine lv_lload_n hx hb dJ22_append_4_1 rfl (lv_at hl 1 rfl) ?_
  obtain ⟨o1, eo1, h⟩ := bind_step h
  have ltp_h_x0 := h_x0.lt
  refine r_cr (r_runSU (k := 4) (rest := []) (As := [.long x1]) hC 1 rfl (m_J21_append_4_B x0 x0r0  x0r0n x0r0c x0f3 x1 o1 eo1) q1009 q1783 q564 q1010 q63 q1011 (OA.recv hS h_x0.OA (C := RJ22) rfl) hd_J21_append_4_B (by decide) rfl ⟨Nat.le_of_ble_eq_true rfl, Nat.le_of_ble_eq_true rfl⟩ hS ⟨h_x0, hB_h_x0, h_x0r0, l_x0r0, ne_x0_x0r0⟩ hl.1 rfl (Nat.le_of_ble_eq_true rfl) dJ22_append_4_2 ⟨Nat.le_of_ble_eq_true rfl, Nat.le_of_ble_eq_true rfl⟩) hS (fun b H locs hp hS hz => ?_)
  obtain ⟨eb_, ad3, h_x0, had3, lo1_2_1, frad3, hO⟩ := hp
  rw [eb_]
  have ne_h_x0_had3 : x0 ≠ ad3 := Nat.ne_of_lt (Nat.lt_of_lt_of_le ltp_h_x0 frad3)
  have ne_h_x0r0_had3 : x0r0 ≠ ad3 := Nat.ne_of_lt (Nat.lt_of_lt_of_le h_x0r0.lt frad3)
  have gad3 : s.heap.size ≤ ad3 := Nat.le_trans hF.1 frad3
  have hB_had3 : dB D ≤ ad3 := by have := hS0.1.2.2.1; omega
  have h_x0r0 := h_x0r0.off hO (Ne.symm ne_x0_x0r0)
  have hF := hF.fresh hO (fun a ha z => z)
  refine lv_pop hx hb dJ22_append_4_5 rfl ?_
  refine lv_aload_n hx hb dJ22_append_4_6 rfl (lv_at hl 0 rfl) ?_
  obtain rfl := Option.some.inj h
  rw [eQ]
  exact r_aret hx hb hr (Or.inl ⟨_, rfl⟩) hlk hS (Nat.le_of_ble_eq_true rfl) (Nat.le_of_ble_eq_true rfl) dJ22_append_4_7 ⟨_, rfl, rfl, ad3, h_x0, had3, lo1_2_1, gad3, hF⟩

abbrev R_J21_getValue : Room := { frames := 0, cells := 0, slots := 0, locals := 0 }
noncomputable def f_J21_getValue (x0r0n : Nat) (x0r0c : Nat → Int32) (x0f3 : Int32) : Option (Unit) :=
  some ()
theorem hd_J21_getValue : Hd yJ21_getValue 0 := by unfold Hd; decide +kernel
set_option maxHeartbeats 4000000 in
set_option maxRecDepth 100000 in
theorem m_J21_getValue {l : Launch} {D : DD} (x0 : Nat) (x0r0 : Nat)  (x0r0n : Nat) (x0r0c : Nat → Int32) (x0f3 : Int32) (r : Unit) (h : f_J21_getValue x0r0n x0r0c x0f3 = some r) : MP l D yJ21_getValue cJ21_getValue 1 (some (.array .byte)) 0 0 [.ref x0] (fun H => ON D 4 x0 [.ref x0r0, .int 0, .int 0, .int x0f3] H ∧ aB D x0r0 x0r0n x0r0c H ∧ x0r0n ≤ 1000000) (some (.ref x0r0)) := by
  refine MP.start (by decide +kernel) (Nat.le_of_ble_eq_true rfl) ?_
  intro p e s m below meth c ls hC hS hp hl
  obtain ⟨h_x0, h_x0r0, l_x0r0⟩ := hp
  obtain ⟨hx, hb, hr, hlk, hml, hown, hts, hnm⟩ := id hC
  have hl : lv_has ls 1 [(0, .ref x0)] := hl
  unfold f_J21_getValue at h
  have hS0 := hS
  obtain ⟨A, eA⟩ : ∃ A : Array Value, A = [.ref x0].toArray := ⟨_, rfl⟩
  rw [← eA] at hC hts ⊢
  obtain ⟨Q, eQ⟩ : ∃ Q : State → Prop, Q = MQ below (PQ (some (.ref x0r0))) A s 0 0 (fun _ => False) := ⟨_, rfl⟩
  show W p l e R_J21_getValue s m A below meth c s.heap [] 0 0 _ _
  rw [← eQ]
  refine lv_aload_n hx hb dJ21_getValue_0 rfl (lv_at hl 0 rfl) ?_
  refine r_get hx hb hts hown hS h_x0.OA rfl in_J22 0 (by decide) q552 rfl (v := .ref x0r0) rfl dJ21_getValue_1 ?_
  obtain rfl := Option.some.inj h
  rw [eQ]
  exact p_aret hx hb hr (Or.inr ⟨_, rfl⟩) hlk dJ21_getValue_4 rfl

abbrev R_J21_length : Room := { frames := 0, cells := 0, slots := 0, locals := 0 }
noncomputable def f_J21_length (x0r0n : Nat) (x0r0c : Nat → Int32) (x0f3 : Int32) : Option (Int32) :=
  some x0f3
theorem hd_J21_length : Hd yJ21_length 0 := by unfold Hd; decide +kernel
set_option maxHeartbeats 4000000 in
set_option maxRecDepth 100000 in
theorem m_J21_length {l : Launch} {D : DD} (x0 : Nat) (x0r0 : Nat)  (x0r0n : Nat) (x0r0c : Nat → Int32) (x0f3 : Int32) (r : Int32) (h : f_J21_length x0r0n x0r0c x0f3 = some r) : MP l D yJ21_length cJ21_length 1 (some .int) 0 0 [.ref x0] (fun H => ON D 4 x0 [.ref x0r0, .int 0, .int 0, .int x0f3] H ∧ aB D x0r0 x0r0n x0r0c H ∧ x0r0n ≤ 1000000) (some (.int r)) := by
  refine MP.start (by decide +kernel) (Nat.le_of_ble_eq_true rfl) ?_
  intro p e s m below meth c ls hC hS hp hl
  obtain ⟨h_x0, h_x0r0, l_x0r0⟩ := hp
  obtain ⟨hx, hb, hr, hlk, hml, hown, hts, hnm⟩ := id hC
  have hl : lv_has ls 1 [(0, .ref x0)] := hl
  unfold f_J21_length at h
  have hS0 := hS
  obtain ⟨A, eA⟩ : ∃ A : Array Value, A = [.ref x0].toArray := ⟨_, rfl⟩
  rw [← eA] at hC hts ⊢
  obtain ⟨Q, eQ⟩ : ∃ Q : State → Prop, Q = MQ below (PQ (some (.int r))) A s 0 0 (fun _ => False) := ⟨_, rfl⟩
  show W p l e R_J21_length s m A below meth c s.heap [] 0 0 _ _
  rw [← eQ]
  refine lv_aload_n hx hb dJ21_length_0 rfl (lv_at hl 0 rfl) ?_
  refine r_get hx hb hts hown hS h_x0.OA rfl in_J22 3 (by decide) q555 rfl (v := .int x0f3) rfl dJ21_length_1 ?_
  obtain rfl := Option.some.inj h
  rw [eQ]
  exact p_iret hx hb hr hlk dJ21_length_4 rfl

abbrev R_J22_length : Room := { frames := 1, cells := 0, slots := 0, locals := 20 }
noncomputable def f_J22_length (x0r0n : Nat) (x0r0c : Nat → Int32) (x0f3 : Int32) : Option (Int32) :=
  Option.bind (f_J21_length x0r0n x0r0c x0f3) fun o1 =>
  some o1
theorem hd_J22_length : Hd yJ22_length 0 := by unfold Hd; decide +kernel
set_option maxHeartbeats 4000000 in
set_option maxRecDepth 100000 in
theorem m_J22_length {l : Launch} {D : DD} (x0 : Nat) (x0r0 : Nat)  (x0r0n : Nat) (x0r0c : Nat → Int32) (x0f3 : Int32) (r : Int32) (h : f_J22_length x0r0n x0r0c x0f3 = some r) : MP l D yJ22_length cJ22_length 1 (some .int) 1 20 [.ref x0] (fun H => ON D 4 x0 [.ref x0r0, .int 0, .int 0, .int x0f3] H ∧ aB D x0r0 x0r0n x0r0c H ∧ x0r0n ≤ 1000000) (some (.int r)) := by
  refine MP.start (by decide +kernel) (Nat.le_of_ble_eq_true rfl) ?_
  intro p e s m below meth c ls hC hS hp hl
  obtain ⟨h_x0, h_x0r0, l_x0r0⟩ := hp
  obtain ⟨hx, hb, hr, hlk, hml, hown, hts, hnm⟩ := id hC
  have hl : lv_has ls 1 [(0, .ref x0)] := hl
  unfold f_J22_length at h
  have hS0 := hS
  obtain ⟨A, eA⟩ : ∃ A : Array Value, A = [.ref x0].toArray := ⟨_, rfl⟩
  rw [← eA] at hC hts ⊢
  obtain ⟨Q, eQ⟩ : ∃ Q : State → Prop, Q = MQ below (PQ (some (.int r))) A s 0 0 (fun _ => False) := ⟨_, rfl⟩
  show W p l e R_J22_length s m A below meth c s.heap [] 0 0 _ _
  rw [← eQ]
  refine lv_aload_n hx hb dJ22_length_0 rfl (lv_at hl 0 rfl) ?_
  obtain ⟨o1, eo1, h⟩ := bind_step h
  refine r_cp (r_runSU (k := 4) (rest := []) (As := []) hC 0 rfl (m_J21_length x0 x0r0  x0r0n x0r0c x0f3 o1 eo1) q722 q718 q564 q717 q63 q723 (OA.recv hS h_x0.OA (C := RJ22) rfl) hd_J21_length (by decide) rfl ⟨Nat.le_of_ble_eq_true rfl, Nat.le_of_ble_eq_true rfl⟩ hS ⟨h_x0, h_x0r0, l_x0r0⟩ hl.1 rfl (Nat.le_of_ble_eq_true rfl) dJ22_length_1 ⟨Nat.le_of_ble_eq_true rfl, Nat.le_of_ble_eq_true rfl⟩) ?_
  obtain rfl := Option.some.inj h
  rw [eQ]
  exact p_iret hx hb hr hlk dJ22_length_4 rfl

abbrev R_J5_init_2 : Room := { frames := 3, cells := 1, slots := 40, locals := 84 }
noncomputable def f_J5_init_2 (x1r0n : Nat) (x1r0c : Nat → Int32) (x1f3 : Int32) : Option (Nat × (Nat → Int32)) :=
  Option.bind (f_J21_getValue x1r0n x1r0c x1f3) fun o1 =>
  Option.bind (f_J22_length x1r0n x1r0c x1f3) fun o2 =>
  Option.bind (f_J21_isLatin1 x1r0n x1r0c x1f3) fun o3 =>
  (if o3 = true then
    Option.bind (f_J19_copyOfRange x1r0n x1r0c 0 o2) fun o5 =>
    some (o5.1, o5.2)
  else
    none
  )
theorem hd_J5_init_2 : Hd yJ5_init_2 2 := by unfold Hd; decide +kernel
set_option maxHeartbeats 4000000 in
set_option maxRecDepth 100000 in
theorem m_J5_init_2 {l : Launch} {D : DD} (x0 : Nat) (x1 : Nat) (x1r0 : Nat)  (x1r0n : Nat) (x1r0c : Nat → Int32) (x1f3 : Int32) (r : Nat × (Nat → Int32)) (h : f_J5_init_2 x1r0n x1r0c x1f3 = some r) : MT l D yJ5_init_2 cJ5_init_2 5 none 3 84 1 40 [.ref x0, .ref x1, .null] (fun H => ON D 3 x0 [.null, .int 0, .int 0, .int 0] H ∧ dB D ≤ x0 ∧ ON D 4 x1 [.ref x1r0, .int 0, .int 0, .int x1f3] H ∧ aB D x1r0 x1r0n x1r0c H ∧ x1r0n ≤ 1000000 ∧ x0 ≠ x1 ∧ x0 ≠ x1r0) (pV (fun H H' => ∃ mx0_0 : Nat, ON D 3 x0 [.ref mx0_0, .int 0, .int 0, .int 0] H' ∧ aB D mx0_0 r.1 r.2 H' ∧ r.1 ≤ 1000000 ∧ H.size ≤ mx0_0 ∧ Off (fun a => a = x0) H H')) := by
  refine MT.start (by decide +kernel) (Nat.le_of_ble_eq_true rfl) ?_
  intro p e s m below meth c ls hC hS hp hl
  obtain ⟨h_x0, hB_h_x0, h_x1, h_x1r0, l_x1r0, ne_x0_x1, ne_x0_x1r0⟩ := hp
  obtain ⟨hx, hb, hr, hlk, hml, hown, hts, hnm⟩ := id hC
  have hl : lv_has ls 5 [(0, .ref x0), (1, .ref x1), (2, .null)] := hl
  unfold f_J5_init_2 at h
  have hS0 := hS
  obtain ⟨A, eA⟩ : ∃ A : Array Value, A = [.ref x0, .ref x1, .null].toArray := ⟨_, rfl⟩
  rw [← eA] at hC hts ⊢
  obtain ⟨Q, eQ⟩ : ∃ Q : State → Prop, Q = MQ below (TQ D (pV (fun H H' => ∃ mx0_0 : Nat, ON D 3 x0 [.ref mx0_0, .int 0, .int 0, .int 0] H' ∧ aB D mx0_0 r.1 r.2 H' ∧ r.1 ≤ 1000000 ∧ H.size ≤ mx0_0 ∧ Off (fun a => a = x0) H H'))) A s 1 40 (fun q => dB D ≤ q) := ⟨_, rfl⟩
  have hF : Off (fun a => a = x0) s.heap s.heap := Off.rf
  show W p l e R_J5_init_2 s m A below meth c s.heap [] 0 0 _ _
  rw [← eQ]
  obtain ⟨H, eH⟩ : ∃ H : Heap, H = s.heap := ⟨_, rfl⟩
  obtain ⟨locs, eLc⟩ : ∃ L : List Loc, L = [] := ⟨_, rfl⟩
  have lt_h_x0 := h_x0.lt
  have lt_h_x1 := h_x1.lt
  have lt_h_x1r0 := h_x1r0.lt
  rw [← eH, ← eLc]
  have hF : Off (fun a => a = x0) s.heap H := by rw [eH]; exact hF
  rw [← eH] at h_x0
  rw [← eH] at h_x1
  rw [← eH] at h_x1r0
  have hS : St D s H locs := by rw [eH, eLc]; exact hS
  refine lv_aload_n hx hb dJ5_init_2_0 rfl (lv_at hl 0 rfl) ?_
  refine r_oinit hC q710 q95 q96 hl.1 dJ5_init_2_1 ⟨Nat.le_of_ble_eq_true rfl, Nat.le_of_ble_eq_true rfl⟩ ?_
  refine lv_aload_n hx hb dJ5_init_2_4 rfl (lv_at hl 1 rfl) ?_
  obtain ⟨o1, eo1, h⟩ := bind_step h
  refine r_cp (r_runVC (rest := []) (As := []) hC 0 (m_J21_getValue x1 x1r0  x1r0n x1r0c x1f3 o1 eo1) q711 q712 (hts _ q714) q63 q715 (OA.recv hS h_x1.OA (C := RJ22) rfl) hd_J21_getValue rfl ⟨Nat.le_of_ble_eq_true rfl, Nat.le_of_ble_eq_true rfl⟩ hS ⟨h_x1, h_x1r0, l_x1r0⟩ hl.1 rfl (Nat.le_of_ble_eq_true rfl) dJ5_init_2_5 ⟨Nat.le_of_ble_eq_true rfl, Nat.le_of_ble_eq_true rfl⟩) ?_
  refine lv_astore_n (lv' := [(3, .ref x1r0), (0, .ref x0), (1, .ref x1), (2, .null)]) hx hb dJ5_init_2_8 rfl hl (by decide) rfl (fun ls hl => ?_)
  refine lv_aload_n hx hb dJ5_init_2_9 rfl (lv_at hl 2 rfl) ?_
  obtain ⟨o2, eo2, h⟩ := bind_step h
  refine r_cp (r_runO (rest := []) (As := []) hC 0 (m_J22_length x1 x1r0  x1r0n x1r0c x1f3 o2 eo2) q716 q718 q717 q719 q720 q64 q721 q723 (OA.recv hS h_x1.OA (C := RJ22) rfl) ⟨by decide, by decide, by decide +kernel⟩  rfl ⟨Nat.le_of_ble_eq_true rfl, Nat.le_of_ble_eq_true rfl⟩ hS ⟨h_x1, h_x1r0, l_x1r0⟩ hl.1 rfl (Nat.le_of_ble_eq_true rfl) dJ5_init_2_10 ⟨Nat.le_of_ble_eq_true rfl, Nat.le_of_ble_eq_true rfl⟩) ?_
  refine lv_istore (lv' := [(4, .int o2), (3, .ref x1r0), (0, .ref x0), (1, .ref x1), (2, .null)]) hx hb dJ5_init_2_13 hl (by decide) rfl (fun ls hl => ?_)
  refine lv_aload_n hx hb dJ5_init_2_15 rfl (lv_at hl 3 rfl) ?_
  obtain ⟨o3, eo3, h⟩ := bind_step h
  refine r_cp (r_runVC (rest := []) (As := []) hC 0 (m_J21_isLatin1 x1 x1r0  x1r0n x1r0c x1f3 o3 eo3) q724 q603 (hts _ q605) q63 q606 (OA.recv hS h_x1.OA (C := RJ22) rfl) hd_J21_isLatin1 rfl ⟨Nat.le_of_ble_eq_true rfl, Nat.le_of_ble_eq_true rfl⟩ hS ⟨h_x1, h_x1r0, l_x1r0⟩ hl.1 rfl (Nat.le_of_ble_eq_true rfl) dJ5_init_2_16 ⟨Nat.le_of_ble_eq_true rfl, Nat.le_of_ble_eq_true rfl⟩) ?_
  refine r_ifz_eq (tgt := 41) hx hb dJ5_init_2_19 (by decide) (fun c4 => ?_) (fun c4 => ?_)
  · have h := it_neg h (by rw [c4]; decide)
    cases h
  · have h := it_pos h (by rw [c4])
    refine lv_aload_n hx hb dJ5_init_2_22 rfl (lv_at hl 2 rfl) ?_
    refine lv_iconst (v := 0) hx hb dJ5_init_2_23 (by decide) ?_
    refine r_putF hx hb hts hown hS h_x0 hB_h_x0 rfl in_J5 tyJ5 tyJ5_ok nmJ5 1 (Nat.le_of_ble_eq_true rfl) rfl q761 rfl rfl hnm rfl (v := .int 0) (by decide) (by rfl) dJ5_init_2_24 (fun H locs hS hO h_x0 => ?_)
    have h_x0 : ON D 3 x0 [.null, .int 0, .int 0, .int 0] H := h_x0
    have h_x1 := h_x1.off hO (Ne.symm ne_x0_x1)
    have h_x1r0 := h_x1r0.off hO (Ne.symm ne_x0_x1r0)
    have hF := hF.fresh hO (fun a ha z => z)
    refine lv_aload_n hx hb dJ5_init_2_27 rfl (lv_at hl 2 rfl) ?_
    refine lv_aload_n hx hb dJ5_init_2_28 rfl (lv_at hl 1 rfl) ?_
    refine lv_iconst (v := 0) hx hb dJ5_init_2_29 (by decide) ?_
    refine lv_iload hx hb dJ5_init_2_30 (lv_at hl 0 rfl) ?_
    obtain ⟨o5, eo5, h⟩ := bind_step h
    refine r_cr (r_runS (rest := [.ref x0]) (As := [.ref x1r0, .int 0, .int o2]) hC 3 (m_J19_copyOfRange x1r0  x1r0n x1r0c 0 o2 o5 eo5) q725 q726 q61 q727 hd_J19_copyOfRange rfl ⟨Nat.le_of_ble_eq_true rfl, Nat.le_of_ble_eq_true rfl⟩ hS ⟨h_x1r0, l_x1r0⟩ hl.1 rfl (Nat.le_of_ble_eq_true rfl) dJ5_init_2_32 ⟨Nat.le_of_ble_eq_true rfl, Nat.le_of_ble_eq_true rfl⟩) hS (fun ad6 H locs hp hS hz => ?_)
    obtain ⟨had6, lo5_1, frad6, hO⟩ := hp
    have ne_h_x0_had6 : x0 ≠ ad6 := Nat.ne_of_lt (Nat.lt_of_lt_of_le h_x0.lt frad6)
    have ne_h_x1_had6 : x1 ≠ ad6 := Nat.ne_of_lt (Nat.lt_of_lt_of_le h_x1.lt frad6)
    have ne_h_x1r0_had6 : x1r0 ≠ ad6 := Nat.ne_of_lt (Nat.lt_of_lt_of_le h_x1r0.lt frad6)
    have gad6 : s.heap.size ≤ ad6 := Nat.le_trans hF.1 frad6
    have hB_had6 : dB D ≤ ad6 := by have := hS0.1.2.2.1; omega
    have h_x0 := h_x0.ext hO
    have h_x1 := h_x1.ext hO
    have h_x1r0 := h_x1r0.ext hO
    have hF := hF.trans (hO.mono (fun _ _ z => z.elim))
    refine r_putF hx hb hts hown hS h_x0 hB_h_x0 rfl in_J5 tyJ5 tyJ5_ok nmJ5 0 (Nat.le_of_ble_eq_true rfl) rfl q760 rfl rfl hnm rfl (v := .ref ad6) rfl (by rfl) dJ5_init_2_35 (fun H locs hS hO h_x0 => ?_)
    have h_x0 : ON D 3 x0 [.ref ad6, .int 0, .int 0, .int 0] H := h_x0
    have h_x1 := h_x1.off hO (Ne.symm ne_x0_x1)
    have h_x1r0 := h_x1r0.off hO (Ne.symm ne_x0_x1r0)
    have had6 := had6.off hO (Ne.symm ne_h_x0_had6)
    have hF := hF.fresh hO (fun a ha z => z)
    refine lv_goto (tgt := 97) hx hb dJ5_init_2_38 (by decide) ?_
    obtain rfl := Option.some.inj h
    rw [eQ]
    exact r_vret hx hb hr hlk hS (Nat.le_of_ble_eq_true rfl) (Nat.le_of_ble_eq_true rfl) dJ5_init_2_97 ⟨rfl, ad6, h_x0, had6, lo5_1, gad6, hF⟩

abbrev R_J5_init : Room := { frames := 4, cells := 1, slots := 40, locals := 108 }
noncomputable def f_J5_init (x1r0n : Nat) (x1r0c : Nat → Int32) (x1f3 : Int32) : Option (Nat × (Nat → Int32)) :=
  Option.bind (f_J5_init_2 x1r0n x1r0c x1f3) fun o1 =>
  some (o1.1, o1.2)
theorem hd_J5_init : Hd yJ5_init 1 := by unfold Hd; decide +kernel
set_option maxHeartbeats 4000000 in
set_option maxRecDepth 100000 in
theorem m_J5_init {l : Launch} {D : DD} (x0 : Nat) (x1 : Nat) (x1r0 : Nat)  (x1r0n : Nat) (x1r0c : Nat → Int32) (x1f3 : Int32) (r : Nat × (Nat → Int32)) (h : f_J5_init x1r0n x1r0c x1f3 = some r) : MT l D yJ5_init cJ5_init 2 none 4 108 1 40 [.ref x0, .ref x1] (fun H => ON D 3 x0 [.null, .int 0, .int 0, .int 0] H ∧ dB D ≤ x0 ∧ ON D 4 x1 [.ref x1r0, .int 0, .int 0, .int x1f3] H ∧ aB D x1r0 x1r0n x1r0c H ∧ x1r0n ≤ 1000000 ∧ x0 ≠ x1 ∧ x0 ≠ x1r0) (pV (fun H H' => ∃ mx0_0 : Nat, ON D 3 x0 [.ref mx0_0, .int 0, .int 0, .int 0] H' ∧ aB D mx0_0 r.1 r.2 H' ∧ r.1 ≤ 1000000 ∧ H.size ≤ mx0_0 ∧ Off (fun a => a = x0) H H')) := by
  refine MT.start (by decide +kernel) (Nat.le_of_ble_eq_true rfl) ?_
  intro p e s m below meth c ls hC hS hp hl
  obtain ⟨h_x0, hB_h_x0, h_x1, h_x1r0, l_x1r0, ne_x0_x1, ne_x0_x1r0⟩ := hp
  obtain ⟨hx, hb, hr, hlk, hml, hown, hts, hnm⟩ := id hC
  have hl : lv_has ls 2 [(0, .ref x0), (1, .ref x1)] := hl
  unfold f_J5_init at h
  have hS0 := hS
  obtain ⟨A, eA⟩ : ∃ A : Array Value, A = [.ref x0, .ref x1].toArray := ⟨_, rfl⟩
  rw [← eA] at hC hts ⊢
  obtain ⟨Q, eQ⟩ : ∃ Q : State → Prop, Q = MQ below (TQ D (pV (fun H H' => ∃ mx0_0 : Nat, ON D 3 x0 [.ref mx0_0, .int 0, .int 0, .int 0] H' ∧ aB D mx0_0 r.1 r.2 H' ∧ r.1 ≤ 1000000 ∧ H.size ≤ mx0_0 ∧ Off (fun a => a = x0) H H'))) A s 1 40 (fun q => dB D ≤ q) := ⟨_, rfl⟩
  have hF : Off (fun a => a = x0) s.heap s.heap := Off.rf
  show W p l e R_J5_init s m A below meth c s.heap [] 0 0 _ _
  rw [← eQ]
  obtain ⟨H, eH⟩ : ∃ H : Heap, H = s.heap := ⟨_, rfl⟩
  obtain ⟨locs, eLc⟩ : ∃ L : List Loc, L = [] := ⟨_, rfl⟩
  have lt_h_x0 := h_x0.lt
  have lt_h_x1 := h_x1.lt
  have lt_h_x1r0 := h_x1r0.lt
  rw [← eH, ← eLc]
  have hF : Off (fun a => a = x0) s.heap H := by rw [eH]; exact hF
  rw [← eH] at h_x0
  rw [← eH] at h_x1
  rw [← eH] at h_x1r0
  have hS : St D s H locs := by rw [eH, eLc]; exact hS
  refine lv_aload_n hx hb dJ5_init_0 rfl (lv_at hl 0 rfl) ?_
  refine lv_aload_n hx hb dJ5_init_1 rfl (lv_at hl 1 rfl) ?_
  refine lv_null hx hb dJ5_init_2 ?_
  obtain ⟨o1, eo1, h⟩ := bind_step h
  have ltp_h_x0 := h_x0.lt
  refine r_cv (r_runI (rest := []) (As := [.ref x1, .null]) hC 2 (m_J5_init_2 x0 x1 x1r0  x1r0n x1r0c x1f3 o1 eo1) q707 q708 q45 q709 rfl hd_J5_init_2 rfl ⟨Nat.le_of_ble_eq_true rfl, Nat.le_of_ble_eq_true rfl⟩ hS ⟨h_x0, hB_h_x0, h_x1, h_x1r0, l_x1r0, ne_x0_x1, ne_x0_x1r0⟩ hl.1 rfl (Nat.le_of_ble_eq_true rfl) dJ5_init_3 ⟨Nat.le_of_ble_eq_true rfl, Nat.le_of_ble_eq_true rfl⟩) hS (fun H locs hp hS hz => ?_)
  obtain ⟨ad2, h_x0, had2, lo1_1, frad2, hO⟩ := hp
  have ne_h_x0_had2 : x0 ≠ ad2 := Nat.ne_of_lt (Nat.lt_of_lt_of_le ltp_h_x0 frad2)
  have ne_h_x1_had2 : x1 ≠ ad2 := Nat.ne_of_lt (Nat.lt_of_lt_of_le h_x1.lt frad2)
  have ne_h_x1r0_had2 : x1r0 ≠ ad2 := Nat.ne_of_lt (Nat.lt_of_lt_of_le h_x1r0.lt frad2)
  have gad2 : s.heap.size ≤ ad2 := Nat.le_trans hF.1 frad2
  have hB_had2 : dB D ≤ ad2 := by have := hS0.1.2.2.1; omega
  have h_x1 := h_x1.off hO (Ne.symm ne_x0_x1)
  have h_x1r0 := h_x1r0.off hO (Ne.symm ne_x0_x1r0)
  have hF := hF.fresh hO (fun a ha z => z)
  obtain rfl := Option.some.inj h
  rw [eQ]
  exact r_vret hx hb hr hlk hS (Nat.le_of_ble_eq_true rfl) (Nat.le_of_ble_eq_true rfl) dJ5_init_6 ⟨rfl, ad2, h_x0, had2, lo1_1, gad2, hF⟩

abbrev R_J22_toString : Room := { frames := 5, cells := 2, slots := 44, locals := 129 }
noncomputable def f_J22_toString (x0r0n : Nat) (x0r0c : Nat → Int32) (x0f3 : Int32) : Option (Nat × (Nat → Int32)) :=
  Option.bind (f_J5_init x0r0n x0r0c x0f3) fun o2 =>
  some (o2.1, o2.2)
theorem hd_J22_toString : Hd yJ22_toString 0 := by unfold Hd; decide +kernel
set_option maxHeartbeats 4000000 in
set_option maxRecDepth 100000 in
theorem m_J22_toString {l : Launch} {D : DD} (x0 : Nat) (x0r0 : Nat)  (x0r0n : Nat) (x0r0c : Nat → Int32) (x0f3 : Int32) (r : Nat × (Nat → Int32)) (h : f_J22_toString x0r0n x0r0c x0f3 = some r) : MT l D yJ22_toString cJ22_toString 1 (some (.object "java/lang/String")) 5 129 2 44 [.ref x0] (fun H => ON D 4 x0 [.ref x0r0, .int 0, .int 0, .int x0f3] H ∧ aB D x0r0 x0r0n x0r0c H ∧ x0r0n ≤ 1000000) (pR (fun H b H' => ∃ b_0 : Nat, ON D 3 b [.ref b_0, .int 0, .int 0, .int 0] H' ∧ aB D b_0 r.1 r.2 H' ∧ r.1 ≤ 1000000 ∧ H.size ≤ b_0 ∧ H.size ≤ b ∧ b ≠ b_0 ∧ Off (fun _ => False) H H')) := by
  refine MT.start (by decide +kernel) (Nat.le_of_ble_eq_true rfl) ?_
  intro p e s m below meth c ls hC hS hp hl
  obtain ⟨h_x0, h_x0r0, l_x0r0⟩ := hp
  obtain ⟨hx, hb, hr, hlk, hml, hown, hts, hnm⟩ := id hC
  have hl : lv_has ls 1 [(0, .ref x0)] := hl
  unfold f_J22_toString at h
  have hS0 := hS
  obtain ⟨A, eA⟩ : ∃ A : Array Value, A = [.ref x0].toArray := ⟨_, rfl⟩
  rw [← eA] at hC hts ⊢
  obtain ⟨Q, eQ⟩ : ∃ Q : State → Prop, Q = MQ below (TQ D (pR (fun H b H' => ∃ b_0 : Nat, ON D 3 b [.ref b_0, .int 0, .int 0, .int 0] H' ∧ aB D b_0 r.1 r.2 H' ∧ r.1 ≤ 1000000 ∧ H.size ≤ b_0 ∧ H.size ≤ b ∧ b ≠ b_0 ∧ Off (fun _ => False) H H'))) A s 2 44 (fun q => dB D ≤ q) := ⟨_, rfl⟩
  have hF : Off (fun _ => False) s.heap s.heap := Off.rf
  show W p l e R_J22_toString s m A below meth c s.heap [] 0 0 _ _
  rw [← eQ]
  obtain ⟨H, eH⟩ : ∃ H : Heap, H = s.heap := ⟨_, rfl⟩
  obtain ⟨locs, eLc⟩ : ∃ L : List Loc, L = [] := ⟨_, rfl⟩
  have lt_h_x0 := h_x0.lt
  have lt_h_x0r0 := h_x0r0.lt
  rw [← eH, ← eLc]
  have hF : Off (fun _ => False) s.heap H := by rw [eH]; exact hF
  rw [← eH] at h_x0
  rw [← eH] at h_x0r0
  have hS : St D s H locs := by rw [eH, eLc]; exact hS
  refine r_new (k := 3) hx hb hts hown hS rfl in_J5 tyJ5 tyJ5_ok q703 q151 q45 (fs := [.null, .int 0, .int 0, .int 0]) rfl (by decide) (Nat.le_of_ble_eq_true rfl) (Nat.le_of_ble_eq_true rfl) dJ22_toString_0 (fun ad1 H eq_ad1 hS hE had1 z_ad1 hB_had1 => ?_)
  have gad1 : s.heap.size ≤ ad1 := by have := hF.1; omega
  have ne_h_x0_had1 : x0 ≠ ad1 := by have := h_x0.lt; omega
  have h_x0 := h_x0.ext hE
  have ne_h_x0r0_had1 : x0r0 ≠ ad1 := by have := h_x0r0.lt; omega
  have h_x0r0 := h_x0r0.ext hE
  have hF := hF.trans (hE.mono (fun _ _ z => z.elim))
  refine lv_dup hx hb dJ22_toString_3 rfl ?_
  refine lv_aload_n hx hb dJ22_toString_4 rfl (lv_at hl 0 rfl) ?_
  obtain ⟨o2, eo2, h⟩ := bind_step h
  have ltp_had1 := had1.lt
  refine r_cv (r_runI (rest := [.ref ad1]) (As := [.ref x0]) hC 1 (m_J5_init ad1 x0 x0r0  x0r0n x0r0c x0f3 o2 eo2) q704 q705 q45 q706 rfl hd_J5_init rfl ⟨Nat.le_of_ble_eq_true rfl, Nat.le_of_ble_eq_true rfl⟩ hS ⟨had1, hB_had1, h_x0, h_x0r0, l_x0r0, (Ne.symm ne_h_x0_had1), (Ne.symm ne_h_x0r0_had1)⟩ hl.1 rfl (Nat.le_of_ble_eq_true rfl) dJ22_toString_5 ⟨Nat.le_of_ble_eq_true rfl, Nat.le_of_ble_eq_true rfl⟩) hS (fun H locs hp hS hz => ?_)
  obtain ⟨ad3, had1, had3, lo2_1, frad3, hO⟩ := hp
  have ne_h_x0_had3 : x0 ≠ ad3 := Nat.ne_of_lt (Nat.lt_of_lt_of_le h_x0.lt frad3)
  have ne_h_x0r0_had3 : x0r0 ≠ ad3 := Nat.ne_of_lt (Nat.lt_of_lt_of_le h_x0r0.lt frad3)
  have ne_had1_had3 : ad1 ≠ ad3 := Nat.ne_of_lt (Nat.lt_of_lt_of_le ltp_had1 frad3)
  have gad3 : s.heap.size ≤ ad3 := Nat.le_trans hF.1 frad3
  have hB_had3 : dB D ≤ ad3 := by have := hS0.1.2.2.1; omega
  have h_x0 := h_x0.off hO ne_h_x0_had1
  have h_x0r0 := h_x0r0.off hO ne_h_x0r0_had1
  have hF := hF.fresh hO (fun a ha z => absurd (z ▸ ha) (Nat.not_lt.mpr gad1))
  obtain rfl := Option.some.inj h
  rw [eQ]
  exact r_aret hx hb hr (Or.inl ⟨_, rfl⟩) hlk hS (Nat.le_of_ble_eq_true rfl) (Nat.le_of_ble_eq_true rfl) dJ22_toString_8 ⟨_, rfl, ad3, had1, had3, lo2_1, gad3, gad1, ne_had1_had3, hF⟩

