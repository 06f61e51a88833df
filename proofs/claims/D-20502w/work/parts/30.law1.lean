/-! the law's methods that need no text: by tools/gen30.py -/
theorem ask_ne {y : Int32} (h : (!(y == 0)) = true) : ¬ y = 0 := by
  intro z
  rw [z] at h
  exact absurd h (by decide)
theorem ask_neL {y : Int64} (h : (!(y == 0)) = true) : ¬ y = 0 := by
  intro z
  rw [z] at h
  exact absurd h (by decide)
abbrev R_X0_told_2 : Room := { frames := 6, cells := 77, slots := 616, locals := 143 }
noncomputable def f_X0_told_2 (x0r0r0c : Nat → UInt64) (x0r0r1c : Nat → UInt64) (x0r0r2c : Nat → Int32) (x0r0f3 : Int32) (x0r0f4 : Int32) (x0r0f5 : Int32) (x0r0f6 : Int32) (x1 : Int32) : Option (Int64) :=
  Option.bind (f_X1_whole x0r0r0c x0r0r1c x0r0r2c x0r0f3 x0r0f4 x0r0f5 x0r0f6 x1) fun o1 =>
  ltl (o1.toInt64) fun v2 =>
  Option.bind (f_X1_steps x0r0r0c x0r0r1c x0r0r2c x0r0f3 x0r0f4 x0r0f5 x0r0f6 x1 30) fun o3 =>
  ltl (o3.toInt64) fun v4 =>
  lt (fun (v5 : Int32) =>
  (show Option (Sum (Int32) (Int64)) from (
  (if 30 ≤ v5 then
    ltl ((v2 * 1073741824 : Int64)) fun v20 =>
    ltl ((v20 + v4 : Int64)) fun v21 =>
    some (.inr v21)
  else
    Option.bind (f_X1_steps x0r0r0c x0r0r1c x0r0r2c x0r0f3 x0r0f4 x0r0f5 x0r0f6 x1 v5) fun o22 =>
    ltl (o22.toInt64) fun v23 =>
    lti (30 - v5) fun v24 =>
    ltl ((v4 : Int64) >>> ((v24 : Int32).toInt64 &&& 63)) fun v25 =>
    lti (lg_cmp v23 v25) fun v26 =>
    (if v26 = 0 then
      lti (v5 + 7) fun v28 =>
      some (.inl v28)
    else
      some (.inr (-9223372036854775808))
    )
  )
  ))
  ) fun F16 =>
  Option.bind (lp 9 (fun x => F16 x) 0) fun w17 =>
  (some w17)
theorem hd_X0_told_2 : Hd yX0_told_2 1 := by unfold Hd; decide +kernel
set_option maxHeartbeats 4000000 in
set_option maxRecDepth 100000 in
theorem m_X0_told_2 {l : Launch} {D : DD} (x0 : Nat) (x0r0 : Nat) (x0r0r0 : Nat) (x0r0r1 : Nat) (x0r0r2 : Nat)  (x0r0r0c : Nat → UInt64) (x0r0r1c : Nat → UInt64) (x0r0r2c : Nat → Int32) (x0r0f3 : Int32) (x0r0f4 : Int32) (x0r0f5 : Int32) (x0r0f6 : Int32) (x1 : Int32) (r : Int64) (h : f_X0_told_2 x0r0r0c x0r0r1c x0r0r2c x0r0f3 x0r0f4 x0r0f5 x0r0f6 x1 = some r) : MT l D yX0_told_2 cX0_told_2 7 (some .long) 6 143 77 616 [.ref x0, .int x1] (fun H => OA D 1 x0 [.ref x0r0] H ∧ ON D 0 x0r0 [.ref x0r0r0, .ref x0r0r1, .ref x0r0r2, .int x0r0f3, .int x0r0f4, .int x0r0f5, .int x0r0f6] H ∧ aD D x0r0r0 8 x0r0r0c H ∧ aD D x0r0r1 8 x0r0r1c H ∧ aZ D x0r0r2 8 x0r0r2c H) (pL (fun H b H' => b = r ∧ Off (fun _ => False) H H')) := by
  refine MT.start (by decide +kernel) (Nat.le_of_ble_eq_true rfl) ?_
  intro p e s m below meth c ls hC hS hp hl
  obtain ⟨h_x0, h_x0r0, h_x0r0r0, h_x0r0r1, h_x0r0r2⟩ := hp
  obtain ⟨hx, hb, hr, hlk, hml, hown, hts, hnm⟩ := id hC
  have hl : lv_has ls 7 [(0, .ref x0), (1, .int x1)] := hl
  unfold f_X0_told_2 at h
  have hS0 := hS
  obtain ⟨A, eA⟩ : ∃ A : Array Value, A = [.ref x0, .int x1].toArray := ⟨_, rfl⟩
  rw [← eA] at hC hts ⊢
  obtain ⟨Q, eQ⟩ : ∃ Q : State → Prop, Q = MQ below (TQ D (pL (fun H b H' => b = r ∧ Off (fun _ => False) H H'))) A s 77 616 (fun q => dB D ≤ q) := ⟨_, rfl⟩
  have hF : Off (fun _ => False) s.heap s.heap := Off.rf
  show W p l e R_X0_told_2 s m A below meth c s.heap [] 0 0 _ _
  rw [← eQ]
  obtain ⟨H, eH⟩ : ∃ H : Heap, H = s.heap := ⟨_, rfl⟩
  obtain ⟨locs, eLc⟩ : ∃ L : List Loc, L = [] := ⟨_, rfl⟩
  have lt_h_x0 := h_x0.lt
  have lt_h_x0r0 := h_x0r0.lt
  have lt_h_x0r0r0 := h_x0r0r0.lt
  have lt_h_x0r0r1 := h_x0r0r1.lt
  have lt_h_x0r0r2 := h_x0r0r2.lt
  rw [← eH, ← eLc]
  have hF : Off (fun _ => False) s.heap H := by rw [eH]; exact hF
  rw [← eH] at h_x0
  rw [← eH] at h_x0r0
  rw [← eH] at h_x0r0r0
  rw [← eH] at h_x0r0r1
  rw [← eH] at h_x0r0r2
  have hS : St D s H locs := by rw [eH, eLc]; exact hS
  refine lv_aload_n hx hb dX0_told_2_0 rfl (lv_at hl 0 rfl) ?_
  refine r_get hx hb hts hown hS h_x0 rfl in_X0 0 (by decide) q936 rfl (v := .ref x0r0) rfl dX0_told_2_1 ?_
  refine lv_iload_n hx hb dX0_told_2_4 rfl (lv_at hl 1 rfl) ?_
  obtain ⟨o1, eo1, h⟩ := bind_step h
  refine r_ci (r_runV (rest := []) (As := [.int x1]) hC 1 (m_X1_whole x0r0 x0r0r0 x0r0r1 x0r0r2  x0r0r0c x0r0r1c x0r0r2c x0r0f3 x0r0f4 x0r0f5 x0r0f6 x1 o1 eo1) q1198 q1199 q1200 q46 q1201 (OA.recv hS h_x0r0.OA (C := RX1) rfl) hd_X1_whole rfl ⟨Nat.le_of_ble_eq_true rfl, Nat.le_of_ble_eq_true rfl⟩ hS ⟨h_x0r0, h_x0r0r0, h_x0r0r1, h_x0r0r2⟩ hl.1 rfl (Nat.le_of_ble_eq_true rfl) dX0_told_2_5 ⟨Nat.le_of_ble_eq_true rfl, Nat.le_of_ble_eq_true rfl⟩) hS (fun b H locs hp hS hz => ?_)
  obtain ⟨eb_, hO⟩ := hp
  rw [eb_]
  have h_x0 := h_x0.ext hO
  have h_x0r0 := h_x0r0.ext hO
  have h_x0r0r0 := h_x0r0r0.ext hO
  have h_x0r0r1 := h_x0r0r1.ext hO
  have h_x0r0r2 := h_x0r0r2.ext hO
  have hF := hF.trans (hO.mono (fun _ _ z => z.elim))
  obtain ⟨v2, ev2, h⟩ := ltl_step h
  refine r_i2l hx hb ev2 dX0_told_2_8 ?_
  refine lv_lstore_n (lv' := [(2, .long v2), (0, .ref x0), (1, .int x1)]) hx hb dX0_told_2_9 rfl hl (by decide) rfl (fun ls hl => ?_)
  refine lv_aload_n hx hb dX0_told_2_10 rfl (lv_at hl 1 rfl) ?_
  refine r_get hx hb hts hown hS h_x0 rfl in_X0 0 (by decide) q936 rfl (v := .ref x0r0) rfl dX0_told_2_11 ?_
  refine lv_iload_n hx hb dX0_told_2_14 rfl (lv_at hl 2 rfl) ?_
  refine lv_bipush (v := 30) hx hb dX0_told_2_15 (by decide) ?_
  obtain ⟨o3, eo3, h⟩ := bind_step h
  refine r_ci (r_runV (rest := []) (As := [.int x1, .int 30]) hC 2 (m_X1_steps x0r0 x0r0r0 x0r0r1 x0r0r2  x0r0r0c x0r0r1c x0r0r2c x0r0f3 x0r0f4 x0r0f5 x0r0f6 x1 30 o3 eo3) q1226 q1227 q1228 q46 q1229 (OA.recv hS h_x0r0.OA (C := RX1) rfl) hd_X1_steps rfl ⟨Nat.le_of_ble_eq_true rfl, Nat.le_of_ble_eq_true rfl⟩ hS ⟨h_x0r0, h_x0r0r0, h_x0r0r1, h_x0r0r2⟩ hl.1 rfl (Nat.le_of_ble_eq_true rfl) dX0_told_2_17 ⟨Nat.le_of_ble_eq_true rfl, Nat.le_of_ble_eq_true rfl⟩) hS (fun b H locs hp hS hz => ?_)
  obtain ⟨eb_, hO⟩ := hp
  rw [eb_]
  have h_x0 := h_x0.ext hO
  have h_x0r0 := h_x0r0.ext hO
  have h_x0r0r0 := h_x0r0r0.ext hO
  have h_x0r0r1 := h_x0r0r1.ext hO
  have h_x0r0r2 := h_x0r0r2.ext hO
  have hF := hF.trans (hO.mono (fun _ _ z => z.elim))
  obtain ⟨v4, ev4, h⟩ := ltl_step h
  refine r_i2l hx hb ev4 dX0_told_2_20 ?_
  refine lv_lstore (lv' := [(4, .long v4), (2, .long v2), (0, .ref x0), (1, .int x1)]) hx hb dX0_told_2_21 hl (by decide) rfl (fun ls hl => ?_)
  refine lv_iconst (v := 0) hx hb dX0_told_2_23 (by decide) ?_
  refine lv_istore (lv' := [(6, .int 0), (4, .long v4), (2, .long v2), (0, .ref x0), (1, .int x1)]) hx hb dX0_told_2_24 hl (by decide) rfl (fun ls hl => ?_)
  obtain ⟨F16, eF16, h⟩ := lt_step h
  obtain ⟨w17, ew17, h⟩ := bind_step h
  obtain ⟨CE, eCE⟩ : ∃ x : Nat, x = 14 + 63 := ⟨_, rfl⟩
  obtain ⟨SE, eSE⟩ : ∃ x : Nat, x = 112 + 504 := ⟨_, rfl⟩
  have hCE : CE ≤ R_X0_told_2.cells := (by rw [eCE]; exact Nat.le_of_ble_eq_true rfl)
  have hSE : SE ≤ R_X0_told_2.slots := (by rw [eSE]; exact Nat.le_of_ble_eq_true rfl)
  have HL : ∀ (n : Nat) (v5 : Int32) (w17 : Int64) (hk0 : lp n (fun x => F16 x) v5 = some w17) (cl : Nat) (sl : Nat) (hcl : cl + 7 * n ≤ CE) (hsl : sl + 56 * n ≤ SE) (H : Heap) (locs : List Loc) (hS : St D s H locs) (hF : Off (fun _ => False) s.heap H) (h_x0 : OA D 1 x0 [.ref x0r0] H) (h_x0r0 : ON D 0 x0r0 [.ref x0r0r0, .ref x0r0r1, .ref x0r0r2, .int x0r0f3, .int x0r0f4, .int x0r0f5, .int x0r0f6] H) (h_x0r0r0 : aD D x0r0r0 8 x0r0r0c H) (h_x0r0r1 : aD D x0r0r1 8 x0r0r1c H) (h_x0r0r2 : aZ D x0r0r2 8 x0r0r2c H) (ls : Array Slot) (hl : lv_has ls 7 [(0, .ref x0), (1, .int x1), (2, .long v2), (4, .long v4), (6, .int v5)]) (KR : ∀ rt, w17 = rt → rt = r), W p l e R_X0_told_2 s m A below meth c H locs cl sl Q (F0 m 26 ls []) := by
    intro n
    induction n with
    | zero => intro v5 w17 hk0 cl sl hcl hsl H locs hS hF h_x0 h_x0r0 h_x0r0r0 h_x0r0r1 h_x0r0r2 ls hl KR; exact lp_zero hk0
    | succ n ih =>
      intro v5 w17 hk0 cl sl hcl hsl H locs hS hF h_x0 h_x0r0 h_x0r0r0 h_x0r0r1 h_x0r0r2 ls hl KR
      obtain ⟨z18, hz, hk⟩ := lp_step hk0
      have h := (congrFun (eF16) v5).symm.trans hz
      have hcO : cl + 7 ≤ CE := al_out hcl
      have hcE : cl + 7 ≤ R_X0_told_2.cells := Nat.le_trans hcO hCE
      have hcN : ∀ a, a ≤ 7 → cl + a + 7 * n ≤ CE := fun a ha => al_next hcl ha
      have hcN0 : cl + 7 * n ≤ CE := al_next hcl (Nat.zero_le _)
      have hsO : sl + 56 ≤ SE := al_out hsl
      have hsE : sl + 56 ≤ R_X0_told_2.slots := Nat.le_trans hsO hSE
      have hsN : ∀ a, a ≤ 56 → sl + a + 56 * n ≤ SE := fun a ha => al_next hsl ha
      have hsN0 : sl + 56 * n ≤ SE := al_next hsl (Nat.zero_le _)
      clear hcl hsl
      refine lv_iload hx hb dX0_told_2_26 (lv_at hl 4 rfl) ?_
      refine lv_bipush (v := 30) hx hb dX0_told_2_28 (by decide) ?_
      refine lv_icmp_ge (tgt := 66) hx hb dX0_told_2_30 (by decide) (fun c19 => ?_) (fun c19 => ?_)
      · have h := it_pos h c19
        refine lv_lload_n hx hb dX0_told_2_66 rfl (lv_at hl 2 rfl) ?_
        refine lv_ldc2 hx hb (v := 1073741824) hown (hts _ q1239) dX0_told_2_67 ?_
        obtain ⟨v20, ev20, h⟩ := ltl_step h
        refine r_lmul hx hb ev20 dX0_told_2_70 ?_
        refine lv_lload hx hb dX0_told_2_71 (lv_at hl 3 rfl) ?_
        obtain ⟨v21, ev21, h⟩ := ltl_step h
        refine r_ladd hx hb ev21 dX0_told_2_73 ?_
        obtain rfl := Option.some.inj h
        have h := congrArg some (KR _ hk.symm)
        refine W.widen (k := CE) (n := SE) (by omega) (by omega) ?_
        obtain rfl := Option.some.inj h
        rw [eQ]
        exact r_lret hx hb hr hlk hS hCE hSE dX0_told_2_74 ⟨_, rfl, rfl, hF⟩
      · have h := it_neg h c19
        refine lv_aload_n hx hb dX0_told_2_33 rfl (lv_at hl 0 rfl) ?_
        refine r_get hx hb hts hown hS h_x0 rfl in_X0 0 (by decide) q936 rfl (v := .ref x0r0) rfl dX0_told_2_34 ?_
        refine lv_iload_n hx hb dX0_told_2_37 rfl (lv_at hl 1 rfl) ?_
        refine lv_iload hx hb dX0_told_2_38 (lv_at hl 4 rfl) ?_
        obtain ⟨o22, eo22, h⟩ := bind_step h
        refine r_ci (r_runV (rest := []) (As := [.int x1, .int v5]) hC 2 (m_X1_steps x0r0 x0r0r0 x0r0r1 x0r0r2  x0r0r0c x0r0r1c x0r0r2c x0r0f3 x0r0f4 x0r0f5 x0r0f6 x1 v5 o22 eo22) q1226 q1227 q1228 q46 q1229 (OA.recv hS h_x0r0.OA (C := RX1) rfl) hd_X1_steps rfl ⟨Nat.le_of_ble_eq_true rfl, Nat.le_of_ble_eq_true rfl⟩ hS ⟨h_x0r0, h_x0r0r0, h_x0r0r1, h_x0r0r2⟩ hl.1 rfl (Nat.le_of_ble_eq_true rfl) dX0_told_2_40 ⟨by have := hcE; have := hsE; omega, by have := hcE; have := hsE; omega⟩) hS (fun b H locs hp hS hz => ?_)
        obtain ⟨eb_, hO⟩ := hp
        rw [eb_]
        have h_x0 := h_x0.ext hO
        have h_x0r0 := h_x0r0.ext hO
        have h_x0r0r0 := h_x0r0r0.ext hO
        have h_x0r0r1 := h_x0r0r1.ext hO
        have h_x0r0r2 := h_x0r0r2.ext hO
        have hF := hF.trans (hO.mono (fun _ _ z => z.elim))
        obtain ⟨v23, ev23, h⟩ := ltl_step h
        refine r_i2l hx hb ev23 dX0_told_2_43 ?_
        refine lv_lload hx hb dX0_told_2_44 (lv_at hl 3 rfl) ?_
        refine lv_bipush (v := 30) hx hb dX0_told_2_46 (by decide) ?_
        refine lv_iload hx hb dX0_told_2_48 (lv_at hl 4 rfl) ?_
        obtain ⟨v24, ev24, h⟩ := lti_step h
        refine r_isub hx hb ev24 dX0_told_2_50 ?_
        obtain ⟨v25, ev25, h⟩ := ltl_step h
        refine r_lshr hx hb ev25 dX0_told_2_51 ?_
        obtain ⟨v26, ev26, h⟩ := lti_step h
        refine r_lcmp hx hb ev26 dX0_told_2_52 ?_
        refine lv_if_eq (tgt := 60) hx hb dX0_told_2_53 (by decide) (fun c27 => ?_) (fun c27 => ?_)
        · have h := it_pos h c27
          obtain ⟨v28, ev28, h⟩ := lti_step h
          refine lv_iinc (v := v28) (lv' := [(6, .int v28), (0, .ref x0), (1, .int x1), (2, .long v2), (4, .long v4)]) hx hb dX0_told_2_60 hl (k := 4) rfl (by rw [ev28]; rfl) (by decide) rfl (fun ls hl => ?_)
          refine lv_goto (tgt := 26) hx hb dX0_told_2_63 (by decide) ?_
          obtain rfl := Option.some.inj h
          exact ih v28 w17 hk _ _ (hcN 7 (Nat.le_of_ble_eq_true rfl)) (hsN 56 (Nat.le_of_ble_eq_true rfl)) H locs hS hF h_x0 h_x0r0 h_x0r0r0 h_x0r0r1 h_x0r0r2 ls (lv_sub hl [1, 2, 3, 4, 0] rfl) KR
        · have h := it_neg h c27
          refine lv_ldc2 hx hb (v := (-9223372036854775808)) hown (hts _ q1238) dX0_told_2_56 ?_
          obtain rfl := Option.some.inj h
          have h := congrArg some (KR _ hk.symm)
          refine W.widen (k := CE) (n := SE) (by omega) (by omega) ?_
          obtain rfl := Option.some.inj h
          rw [eQ]
          exact r_lret hx hb hr hlk hS hCE hSE dX0_told_2_59 ⟨_, rfl, rfl, hF⟩
  clear eF16
  refine HL 9 0 w17 ew17 _ _ (Nat.le_of_eq eCE.symm) (Nat.le_of_eq eSE.symm) H locs hS hF h_x0 h_x0r0 h_x0r0r0 h_x0r0r1 h_x0r0r2 ls (lv_sub hl [3, 4, 2, 1, 0] rfl) (fun rt eR => ?_)
  subst eR
  exact Option.some.inj h

abbrev R_X0_some : Room := { frames := 0, cells := 0, slots := 0, locals := 0 }
noncomputable def f_X0_some (x0 : Int32) (x1 : Int32) : Option (Int32) :=
  lti (x0 &&& 2147483647) fun v1 =>
  ask (!((x1 : Int32) == 0)) <|
  lti (v1 - v1 / x1 * x1) fun v3 =>
  some v3
theorem hd_X0_some : Hd yX0_some 2 := by unfold Hd; decide +kernel
set_option maxHeartbeats 4000000 in
set_option maxRecDepth 100000 in
theorem m_X0_some {l : Launch} {D : DD}   (x0 : Int32) (x1 : Int32) (r : Int32) (h : f_X0_some x0 x1 = some r) : MP l D yX0_some cX0_some 2 (some .int) 0 0 [.int x0, .int x1] NoPre (some (.int r)) := by
  refine MP.start (by decide +kernel) (Nat.le_of_ble_eq_true rfl) ?_
  intro p e s m below meth c ls hC hS hp hl
  obtain ⟨hx, hb, hr, hlk, hml, hown, hts, hnm⟩ := id hC
  have hl : lv_has ls 2 [(0, .int x0), (1, .int x1)] := hl
  unfold f_X0_some at h
  have hS0 := hS
  obtain ⟨A, eA⟩ : ∃ A : Array Value, A = [.int x0, .int x1].toArray := ⟨_, rfl⟩
  rw [← eA] at hC hts ⊢
  obtain ⟨Q, eQ⟩ : ∃ Q : State → Prop, Q = MQ below (PQ (some (.int r))) A s 0 0 (fun _ => False) := ⟨_, rfl⟩
  show W p l e R_X0_some s m A below meth c s.heap [] 0 0 _ _
  rw [← eQ]
  refine lv_iload_n hx hb dX0_some_0 rfl (lv_at hl 0 rfl) ?_
  refine lv_ldc hx hb (v := 2147483647) hown (hts _ q1247) dX0_some_1 ?_
  obtain ⟨v1, ev1, h⟩ := lti_step h
  refine r_iand hx hb ev1 dX0_some_3 ?_
  refine lv_iload_n hx hb dX0_some_4 rfl (lv_at hl 1 rfl) ?_
  obtain ⟨b2, h⟩ := ask_step h
  obtain ⟨v3, ev3, h⟩ := lti_step h
  refine r_irem hx hb ev3 (ask_ne b2) dX0_some_5 ?_
  obtain rfl := Option.some.inj h
  rw [eQ]
  exact p_iret hx hb hr hlk dX0_some_6 rfl

abbrev R_X0_comes : Room := { frames := 13, cells := 536, slots := 5228, locals := 1520 }
noncomputable def f_X0_comes (x0r0r0c : Nat → UInt64) (x0r0r1c : Nat → UInt64) (x0r0r2c : Nat → Int32) (x0r0f3 : Int32) (x0r0f4 : Int32) (x0r0f5 : Int32) (x0r0f6 : Int32) (x1 : Int32) : Option (Bool × Int32 × Int32 × (Nat → UInt64) × (Nat → Int32)) :=
  lt (fun (_u : Unit) =>
  lt (fun (v2 : Int32) =>
  lt (fun (v4 : Int32) =>
  Option.bind (f_X1_great x0r0r0c x0r0r1c x0r0r2c x0r0f3 x0r0f4 x0r0f5 x0r0f6 6 v2 v4 false) fun o6 =>
  (if o6.1 < 0 then
    some (false, o6.2.1, x0r0f5, o6.2.2.1, o6.2.2.2)
  else
    some (true, o6.2.1, x0r0f5, o6.2.2.1, o6.2.2.2)
  )
  ) fun K5 =>
  (if x1 = 4 then
    K5 44
  else
    K5 8
  )
  ) fun K3 =>
  (if x1 = 4 then
    K3 64
  else
    K3 33
  )
  ) fun K1 =>
  (if x1 = 4 then
    K1 ()
  else
    (if x1 = 5 then
      K1 ()
    else
      lt (fun (v12 : Int32) =>
      Option.bind (f_X1_eighths x0r0r0c x0r0r1c x0r0r2c x0r0f3 x0r0f4 x0r0f5 x0r0f6 6 v12) fun o14 =>
      (if o14.1 < 0 then
        some (false, o14.2.1, x0r0f5, o14.2.2.1, o14.2.2.2)
      else
        (if x1 = 7 then
          Option.bind (f_X1_angleTwice o14.2.2.1 x0r0r1c o14.2.2.2 o14.2.1 x0r0f4 x0r0f5 x0r0f6 6) fun o17 =>
          (if o17.1 = 1 then
            some (true, o17.2.1, o17.2.2.1, o17.2.2.2.1, o17.2.2.2.2)
          else
            some (false, o17.2.1, o17.2.2.1, o17.2.2.2.1, o17.2.2.2.2)
          )
        else
          some (true, o14.2.1, x0r0f5, o14.2.2.1, o14.2.2.2)
        )
      )
      ) fun K13 =>
      (if x1 = 7 then
        K13 1420
      else
        gd 8 x1 fun i20 =>
        ltl (tb_EIGHTHS i20) fun v21 =>
        lti (v21.toInt32) fun v22 =>
        K13 v22
      )
    )
  )
theorem hd_X0_comes : Hd yX0_comes 1 := by unfold Hd; decide +kernel
set_option maxHeartbeats 4000000 in
set_option maxRecDepth 100000 in
theorem m_X0_comes {l : Launch} {D : DD} (x0 : Nat) (x0r0 : Nat) (x0r0r0 : Nat) (x0r0r1 : Nat) (x0r0r2 : Nat)  (x0r0r0c : Nat → UInt64) (x0r0r1c : Nat → UInt64) (x0r0r2c : Nat → Int32) (x0r0f3 : Int32) (x0r0f4 : Int32) (x0r0f5 : Int32) (x0r0f6 : Int32) (x1 : Int32) (r : Bool × Int32 × Int32 × (Nat → UInt64) × (Nat → Int32)) (h : f_X0_comes x0r0r0c x0r0r1c x0r0r2c x0r0f3 x0r0f4 x0r0f5 x0r0f6 x1 = some r) : MT l D yX0_comes cX0_comes 2 (some .boolean) 13 1520 536 5228 [.ref x0, .int x1] (fun H => OA D 1 x0 [.ref x0r0] H ∧ ON D 0 x0r0 [.ref x0r0r0, .ref x0r0r1, .ref x0r0r2, .int x0r0f3, .int x0r0f4, .int x0r0f5, .int x0r0f6] H ∧ dB D ≤ x0r0 ∧ aD D x0r0r0 8 x0r0r0c H ∧ dB D ≤ x0r0r0 ∧ aD D x0r0r1 8 x0r0r1c H ∧ aZ D x0r0r2 8 x0r0r2c H ∧ dB D ≤ x0r0r2 ∧ x0 ≠ x0r0 ∧ x0 ≠ x0r0r0 ∧ x0 ≠ x0r0r2 ∧ x0r0 ≠ x0r0r0 ∧ x0r0 ≠ x0r0r1 ∧ x0r0 ≠ x0r0r2 ∧ x0r0r0 ≠ x0r0r1 ∧ x0r0r0 ≠ x0r0r2 ∧ x0r0r1 ≠ x0r0r2) (pZ (fun H b H' => b = r.1 ∧ ON D 0 x0r0 [.ref x0r0r0, .ref x0r0r1, .ref x0r0r2, .int r.2.1, .int x0r0f4, .int r.2.2.1, .int x0r0f6] H' ∧ aD D x0r0r0 8 r.2.2.2.1 H' ∧ aZ D x0r0r2 8 r.2.2.2.2 H' ∧ Off (fun a => a = x0r0 ∨ a = x0r0r0 ∨ a = x0r0r2) H H')) := by
  refine MT.start (by decide +kernel) (Nat.le_of_ble_eq_true rfl) ?_
  intro p e s m below meth c ls hC hS hp hl
  obtain ⟨h_x0, h_x0r0, hB_h_x0r0, h_x0r0r0, hB_h_x0r0r0, h_x0r0r1, h_x0r0r2, hB_h_x0r0r2, ne_x0_x0r0, ne_x0_x0r0r0, ne_x0_x0r0r2, ne_x0r0_x0r0r0, ne_x0r0_x0r0r1, ne_x0r0_x0r0r2, ne_x0r0r0_x0r0r1, ne_x0r0r0_x0r0r2, ne_x0r0r1_x0r0r2⟩ := hp
  obtain ⟨hx, hb, hr, hlk, hml, hown, hts, hnm⟩ := id hC
  have hl : lv_has ls 2 [(0, .ref x0), (1, .int x1)] := hl
  unfold f_X0_comes at h
  have hS0 := hS
  obtain ⟨A, eA⟩ : ∃ A : Array Value, A = [.ref x0, .int x1].toArray := ⟨_, rfl⟩
  rw [← eA] at hC hts ⊢
  obtain ⟨Q, eQ⟩ : ∃ Q : State → Prop, Q = MQ below (TQ D (pZ (fun H b H' => b = r.1 ∧ ON D 0 x0r0 [.ref x0r0r0, .ref x0r0r1, .ref x0r0r2, .int r.2.1, .int x0r0f4, .int r.2.2.1, .int x0r0f6] H' ∧ aD D x0r0r0 8 r.2.2.2.1 H' ∧ aZ D x0r0r2 8 r.2.2.2.2 H' ∧ Off (fun a => a = x0r0 ∨ a = x0r0r0 ∨ a = x0r0r2) H H'))) A s 536 5228 (fun q => dB D ≤ q) := ⟨_, rfl⟩
  have hF : Off (fun a => a = x0r0 ∨ a = x0r0r0 ∨ a = x0r0r2) s.heap s.heap := Off.rf
  show W p l e R_X0_comes s m A below meth c s.heap [] 0 0 _ _
  rw [← eQ]
  obtain ⟨H, eH⟩ : ∃ H : Heap, H = s.heap := ⟨_, rfl⟩
  obtain ⟨locs, eLc⟩ : ∃ L : List Loc, L = [] := ⟨_, rfl⟩
  have lt_h_x0 := h_x0.lt
  have lt_h_x0r0 := h_x0r0.lt
  have lt_h_x0r0r0 := h_x0r0r0.lt
  have lt_h_x0r0r1 := h_x0r0r1.lt
  have lt_h_x0r0r2 := h_x0r0r2.lt
  rw [← eH, ← eLc]
  have hF : Off (fun a => a = x0r0 ∨ a = x0r0r0 ∨ a = x0r0r2) s.heap H := by rw [eH]; exact hF
  rw [← eH] at h_x0
  rw [← eH] at h_x0r0
  rw [← eH] at h_x0r0r0
  rw [← eH] at h_x0r0r1
  rw [← eH] at h_x0r0r2
  have hS : St D s H locs := by rw [eH, eLc]; exact hS
  refine lv_iload_n hx hb dX0_comes_0 rfl (lv_at hl 1 rfl) ?_
  refine lv_iconst (v := 4) hx hb dX0_comes_1 (by decide) ?_
  obtain ⟨K1, eK1, h⟩ := lt_step h
  have HK1 : ∀  (h : K1 () = some r) (H : Heap) (locs : List Loc) (hS : St D s H locs) (hF : Off (fun a => a = x0r0 ∨ a = x0r0r0 ∨ a = x0r0r2) s.heap H) (h_x0 : OA D 1 x0 [.ref x0r0] H) (h_x0r0 : ON D 0 x0r0 [.ref x0r0r0, .ref x0r0r1, .ref x0r0r2, .int x0r0f3, .int x0r0f4, .int x0r0f5, .int x0r0f6] H) (h_x0r0r0 : aD D x0r0r0 8 x0r0r0c H) (h_x0r0r1 : aD D x0r0r1 8 x0r0r1c H) (h_x0r0r2 : aZ D x0r0r2 8 x0r0r2c H) (ls : Array Slot) (hl : lv_has ls 2 [(0, .ref x0), (1, .int x1)]), W p l e R_X0_comes s m A below meth c H locs 0 0 Q (F0 m 10 ls []) := by
    intro h H locs hS hF h_x0 h_x0r0 h_x0r0r0 h_x0r0r1 h_x0r0r2 ls hl
    subst eK1
    refine lv_aload_n hx hb dX0_comes_10 rfl (lv_at hl 0 rfl) ?_
    refine r_get hx hb hts hown hS h_x0 rfl in_X0 0 (by decide) q936 rfl (v := .ref x0r0) rfl dX0_comes_11 ?_
    refine lv_bipush (v := 6) hx hb dX0_comes_14 (by decide) ?_
    refine lv_iload_n hx hb dX0_comes_16 rfl (lv_at hl 1 rfl) ?_
    refine lv_iconst (v := 4) hx hb dX0_comes_17 (by decide) ?_
    obtain ⟨K3, eK3, h⟩ := lt_step h
    have HK3 : ∀ (v2 : Int32) (h : K3 v2 = some r) (H : Heap) (locs : List Loc) (hS : St D s H locs) (hF : Off (fun a => a = x0r0 ∨ a = x0r0r0 ∨ a = x0r0r2) s.heap H) (h_x0 : OA D 1 x0 [.ref x0r0] H) (h_x0r0 : ON D 0 x0r0 [.ref x0r0r0, .ref x0r0r1, .ref x0r0r2, .int x0r0f3, .int x0r0f4, .int x0r0f5, .int x0r0f6] H) (h_x0r0r0 : aD D x0r0r0 8 x0r0r0c H) (h_x0r0r1 : aD D x0r0r1 8 x0r0r1c H) (h_x0r0r2 : aZ D x0r0r2 8 x0r0r2c H) (ls : Array Slot) (hl : lv_has ls 2 [(1, .int x1)]), W p l e R_X0_comes s m A below meth c H locs 0 0 Q (F0 m 28 ls [.int v2, .int 6, .ref x0r0]) := by
      intro v2 h H locs hS hF h_x0 h_x0r0 h_x0r0r0 h_x0r0r1 h_x0r0r2 ls hl
      subst eK3
      refine lv_iload_n hx hb dX0_comes_28 rfl (lv_at hl 0 rfl) ?_
      refine lv_iconst (v := 4) hx hb dX0_comes_29 (by decide) ?_
      obtain ⟨K5, eK5, h⟩ := lt_step h
      have HK5 : ∀ (v4 : Int32) (h : K5 v4 = some r) (H : Heap) (locs : List Loc) (hS : St D s H locs) (hF : Off (fun a => a = x0r0 ∨ a = x0r0r0 ∨ a = x0r0r2) s.heap H) (h_x0 : OA D 1 x0 [.ref x0r0] H) (h_x0r0 : ON D 0 x0r0 [.ref x0r0r0, .ref x0r0r1, .ref x0r0r2, .int x0r0f3, .int x0r0f4, .int x0r0f5, .int x0r0f6] H) (h_x0r0r0 : aD D x0r0r0 8 x0r0r0c H) (h_x0r0r1 : aD D x0r0r1 8 x0r0r1c H) (h_x0r0r2 : aZ D x0r0r2 8 x0r0r2c H) (ls : Array Slot) (hl : lv_has ls 2 []), W p l e R_X0_comes s m A below meth c H locs 0 0 Q (F0 m 40 ls [.int v4, .int v2, .int 6, .ref x0r0]) := by
        intro v4 h H locs hS hF h_x0 h_x0r0 h_x0r0r0 h_x0r0r1 h_x0r0r2 ls hl
        subst eK5
        refine lv_iconst (v := 0) hx hb dX0_comes_40 (by decide) ?_
        obtain ⟨o6, eo6, h⟩ := bind_step h
        refine r_ci (r_runV (rest := []) (As := [.int 6, .int v2, .int v4, .int 0]) hC 4 (m_X1_great x0r0 x0r0r0 x0r0r1 x0r0r2  x0r0r0c x0r0r1c x0r0r2c x0r0f3 x0r0f4 x0r0f5 x0r0f6 6 v2 v4 false o6 eo6) q1358 q1359 q1360 q46 q1361 (OA.recv hS h_x0r0.OA (C := RX1) rfl) hd_X1_great rfl ⟨Nat.le_of_ble_eq_true rfl, Nat.le_of_ble_eq_true rfl⟩ hS ⟨h_x0r0, hB_h_x0r0, h_x0r0r0, hB_h_x0r0r0, h_x0r0r1, h_x0r0r2, hB_h_x0r0r2, ne_x0r0_x0r0r0, ne_x0r0_x0r0r1, ne_x0r0_x0r0r2, ne_x0r0r0_x0r0r1, ne_x0r0r0_x0r0r2, ne_x0r0r1_x0r0r2⟩ hl.1 rfl (Nat.le_of_ble_eq_true rfl) dX0_comes_41 ⟨Nat.le_of_ble_eq_true rfl, Nat.le_of_ble_eq_true rfl⟩) hS (fun b H locs hp hS hz => ?_)
        obtain ⟨rfl, h_x0r0, h_x0r0r0, h_x0r0r2, hO⟩ := hp
        have h_x0 := h_x0.off hO (fun z => by rcases z with z | z | z <;> first | exact ne_x0_x0r0 z | exact ne_x0_x0r0r0 z | exact ne_x0_x0r0r2 z)
        have h_x0r0r1 := h_x0r0r1.off hO (fun z => by rcases z with z | z | z <;> first | exact (Ne.symm ne_x0r0_x0r0r1) z | exact (Ne.symm ne_x0r0r0_x0r0r1) z | exact ne_x0r0r1_x0r0r2 z)
        have hF := hF.fresh hO (fun a ha z => by
          rcases z with z | z | z
          · exact Or.inl z
          · exact Or.inr (Or.inl z)
          · exact Or.inr (Or.inr (z)))
        refine lv_if_lt (tgt := 51) hx hb dX0_comes_44 (by decide) (fun c7 => ?_) (fun c7 => ?_)
        · have h := it_pos h c7
          refine lv_iconst (v := 0) hx hb dX0_comes_51 (by decide) ?_
          obtain rfl := Option.some.inj h
          rw [eQ]
          exact r_zret hx hb hr hlk hS (by decide) (Nat.le_of_ble_eq_true rfl) (Nat.le_of_ble_eq_true rfl) dX0_comes_52 ⟨_, rfl, rfl, h_x0r0, h_x0r0r0, h_x0r0r2, hF⟩
        · have h := it_neg h c7
          refine lv_iconst (v := 1) hx hb dX0_comes_47 (by decide) ?_
          refine lv_goto (tgt := 52) hx hb dX0_comes_48 (by decide) ?_
          obtain rfl := Option.some.inj h
          rw [eQ]
          exact r_zret hx hb hr hlk hS (by decide) (Nat.le_of_ble_eq_true rfl) (Nat.le_of_ble_eq_true rfl) dX0_comes_52 ⟨_, rfl, rfl, h_x0r0, h_x0r0r0, h_x0r0r2, hF⟩
      clear eK5
      refine lv_icmp_ne (tgt := 38) hx hb dX0_comes_30 (by decide) (fun c8 => ?_) (fun c8 => ?_)
      · have h := it_neg h c8
        refine lv_bipush (v := 8) hx hb dX0_comes_38 (by decide) ?_
        exact HK5 8 h H locs hS hF h_x0 h_x0r0 h_x0r0r0 h_x0r0r1 h_x0r0r2 ls (lv_sub hl [] rfl)
      · have h := it_pos h c8
        refine lv_bipush (v := 44) hx hb dX0_comes_33 (by decide) ?_
        refine lv_goto (tgt := 40) hx hb dX0_comes_35 (by decide) ?_
        exact HK5 44 h H locs hS hF h_x0 h_x0r0 h_x0r0r0 h_x0r0r1 h_x0r0r2 ls (lv_sub hl [] rfl)
    clear eK3
    refine lv_icmp_ne (tgt := 26) hx hb dX0_comes_18 (by decide) (fun c9 => ?_) (fun c9 => ?_)
    · have h := it_neg h c9
      refine lv_bipush (v := 33) hx hb dX0_comes_26 (by decide) ?_
      exact HK3 33 h H locs hS hF h_x0 h_x0r0 h_x0r0r0 h_x0r0r1 h_x0r0r2 ls (lv_sub hl [1] rfl)
    · have h := it_pos h c9
      refine lv_bipush (v := 64) hx hb dX0_comes_21 (by decide) ?_
      refine lv_goto (tgt := 28) hx hb dX0_comes_23 (by decide) ?_
      exact HK3 64 h H locs hS hF h_x0 h_x0r0 h_x0r0r0 h_x0r0r1 h_x0r0r2 ls (lv_sub hl [1] rfl)
  clear eK1
  refine lv_icmp_eq (tgt := 10) hx hb dX0_comes_2 (by decide) (fun c10 => ?_) (fun c10 => ?_)
  · have h := it_pos h c10
    exact HK1  h H locs hS hF h_x0 h_x0r0 h_x0r0r0 h_x0r0r1 h_x0r0r2 ls (lv_sub hl [0, 1] rfl)
  · have h := it_neg h c10
    refine lv_iload_n hx hb dX0_comes_5 rfl (lv_at hl 1 rfl) ?_
    refine lv_iconst (v := 5) hx hb dX0_comes_6 (by decide) ?_
    refine lv_icmp_ne (tgt := 53) hx hb dX0_comes_7 (by decide) (fun c11 => ?_) (fun c11 => ?_)
    · have h := it_neg h c11
      refine lv_aload_n hx hb dX0_comes_53 rfl (lv_at hl 0 rfl) ?_
      refine r_get hx hb hts hown hS h_x0 rfl in_X0 0 (by decide) q936 rfl (v := .ref x0r0) rfl dX0_comes_54 ?_
      refine lv_bipush (v := 6) hx hb dX0_comes_57 (by decide) ?_
      refine lv_iload_n hx hb dX0_comes_59 rfl (lv_at hl 1 rfl) ?_
      refine lv_bipush (v := 7) hx hb dX0_comes_60 (by decide) ?_
      obtain ⟨K13, eK13, h⟩ := lt_step h
      have HK13 : ∀ (v12 : Int32) (h : K13 v12 = some r) (H : Heap) (locs : List Loc) (hS : St D s H locs) (hF : Off (fun a => a = x0r0 ∨ a = x0r0r0 ∨ a = x0r0r2) s.heap H) (h_x0 : OA D 1 x0 [.ref x0r0] H) (h_x0r0 : ON D 0 x0r0 [.ref x0r0r0, .ref x0r0r1, .ref x0r0r2, .int x0r0f3, .int x0r0f4, .int x0r0f5, .int x0r0f6] H) (h_x0r0r0 : aD D x0r0r0 8 x0r0r0c H) (h_x0r0r1 : aD D x0r0r1 8 x0r0r1c H) (h_x0r0r2 : aZ D x0r0r2 8 x0r0r2c H) (ls : Array Slot) (hl : lv_has ls 2 [(0, .ref x0), (1, .int x1)]), W p l e R_X0_comes s m A below meth c H locs 0 0 Q (F0 m 77 ls [.int v12, .int 6, .ref x0r0]) := by
        intro v12 h H locs hS hF h_x0 h_x0r0 h_x0r0r0 h_x0r0r1 h_x0r0r2 ls hl
        subst eK13
        obtain ⟨o14, eo14, h⟩ := bind_step h
        refine r_ci (r_runV (rest := []) (As := [.int 6, .int v12]) hC 2 (m_X1_eighths x0r0 x0r0r0 x0r0r1 x0r0r2  x0r0r0c x0r0r1c x0r0r2c x0r0f3 x0r0f4 x0r0f5 x0r0f6 6 v12 o14 eo14) q1348 q1349 q1350 q46 q1351 (OA.recv hS h_x0r0.OA (C := RX1) rfl) hd_X1_eighths rfl ⟨Nat.le_of_ble_eq_true rfl, Nat.le_of_ble_eq_true rfl⟩ hS ⟨h_x0r0, hB_h_x0r0, h_x0r0r0, hB_h_x0r0r0, h_x0r0r1, h_x0r0r2, hB_h_x0r0r2, ne_x0r0_x0r0r0, ne_x0r0_x0r0r1, ne_x0r0_x0r0r2, ne_x0r0r0_x0r0r1, ne_x0r0r0_x0r0r2, ne_x0r0r1_x0r0r2⟩ hl.1 rfl (Nat.le_of_ble_eq_true rfl) dX0_comes_77 ⟨Nat.le_of_ble_eq_true rfl, Nat.le_of_ble_eq_true rfl⟩) hS (fun b H locs hp hS hz => ?_)
        obtain ⟨rfl, h_x0r0, h_x0r0r0, h_x0r0r2, hO⟩ := hp
        have h_x0 := h_x0.off hO (fun z => by rcases z with z | z | z <;> first | exact ne_x0_x0r0 z | exact ne_x0_x0r0r0 z | exact ne_x0_x0r0r2 z)
        have h_x0r0r1 := h_x0r0r1.off hO (fun z => by rcases z with z | z | z <;> first | exact (Ne.symm ne_x0r0_x0r0r1) z | exact (Ne.symm ne_x0r0r0_x0r0r1) z | exact ne_x0r0r1_x0r0r2 z)
        have hF := hF.fresh hO (fun a ha z => by
          rcases z with z | z | z
          · exact Or.inl z
          · exact Or.inr (Or.inl z)
          · exact Or.inr (Or.inr (z)))
        refine lv_if_lt (tgt := 106) hx hb dX0_comes_80 (by decide) (fun c15 => ?_) (fun c15 => ?_)
        · have h := it_pos h c15
          refine lv_iconst (v := 0) hx hb dX0_comes_106 (by decide) ?_
          obtain rfl := Option.some.inj h
          rw [eQ]
          exact r_zret hx hb hr hlk hS (by decide) (Nat.le_of_ble_eq_true rfl) (Nat.le_of_ble_eq_true rfl) dX0_comes_107 ⟨_, rfl, rfl, h_x0r0, h_x0r0r0, h_x0r0r2, hF⟩
        · have h := it_neg h c15
          refine lv_iload_n hx hb dX0_comes_83 rfl (lv_at hl 1 rfl) ?_
          refine lv_bipush (v := 7) hx hb dX0_comes_84 (by decide) ?_
          refine lv_icmp_ne (tgt := 102) hx hb dX0_comes_86 (by decide) (fun c16 => ?_) (fun c16 => ?_)
          · have h := it_neg h c16
            refine lv_iconst (v := 1) hx hb dX0_comes_102 (by decide) ?_
            refine lv_goto (tgt := 107) hx hb dX0_comes_103 (by decide) ?_
            obtain rfl := Option.some.inj h
            rw [eQ]
            exact r_zret hx hb hr hlk hS (by decide) (Nat.le_of_ble_eq_true rfl) (Nat.le_of_ble_eq_true rfl) dX0_comes_107 ⟨_, rfl, rfl, h_x0r0, h_x0r0r0, h_x0r0r2, hF⟩
          · have h := it_pos h c16
            refine lv_aload_n hx hb dX0_comes_89 rfl (lv_at hl 0 rfl) ?_
            refine r_get hx hb hts hown hS h_x0 rfl in_X0 0 (by decide) q936 rfl (v := .ref x0r0) rfl dX0_comes_90 ?_
            refine lv_bipush (v := 6) hx hb dX0_comes_93 (by decide) ?_
            obtain ⟨o17, eo17, h⟩ := bind_step h
            refine r_ci (r_runV (rest := []) (As := [.int 6]) hC 1 (m_X1_angleTwice x0r0 x0r0r0 x0r0r1 x0r0r2  o14.2.2.1 x0r0r1c o14.2.2.2 o14.2.1 x0r0f4 x0r0f5 x0r0f6 6 o17 eo17) q1411 q1412 q1413 q46 q1414 (OA.recv hS h_x0r0.OA (C := RX1) rfl) hd_X1_angleTwice rfl ⟨Nat.le_of_ble_eq_true rfl, Nat.le_of_ble_eq_true rfl⟩ hS ⟨h_x0r0, hB_h_x0r0, h_x0r0r0, hB_h_x0r0r0, h_x0r0r1, h_x0r0r2, hB_h_x0r0r2, ne_x0r0_x0r0r0, ne_x0r0_x0r0r1, ne_x0r0_x0r0r2, ne_x0r0r0_x0r0r1, ne_x0r0r0_x0r0r2, ne_x0r0r1_x0r0r2⟩ hl.1 rfl (Nat.le_of_ble_eq_true rfl) dX0_comes_95 ⟨Nat.le_of_ble_eq_true rfl, Nat.le_of_ble_eq_true rfl⟩) hS (fun b H locs hp hS hz => ?_)
            obtain ⟨rfl, h_x0r0, h_x0r0r0, h_x0r0r2, hO⟩ := hp
            have h_x0 := h_x0.off hO (fun z => by rcases z with z | z | z <;> first | exact ne_x0_x0r0 z | exact ne_x0_x0r0r0 z | exact ne_x0_x0r0r2 z)
            have h_x0r0r1 := h_x0r0r1.off hO (fun z => by rcases z with z | z | z <;> first | exact (Ne.symm ne_x0r0_x0r0r1) z | exact (Ne.symm ne_x0r0r0_x0r0r1) z | exact ne_x0r0r1_x0r0r2 z)
            have hF := hF.fresh hO (fun a ha z => by
              rcases z with z | z | z
              · exact Or.inl z
              · exact Or.inr (Or.inl z)
              · exact Or.inr (Or.inr (z)))
            refine lv_iconst (v := 1) hx hb dX0_comes_98 (by decide) ?_
            refine lv_icmp_ne (tgt := 106) hx hb dX0_comes_99 (by decide) (fun c18 => ?_) (fun c18 => ?_)
            · have h := it_neg h c18
              refine lv_iconst (v := 0) hx hb dX0_comes_106 (by decide) ?_
              obtain rfl := Option.some.inj h
              rw [eQ]
              exact r_zret hx hb hr hlk hS (by decide) (Nat.le_of_ble_eq_true rfl) (Nat.le_of_ble_eq_true rfl) dX0_comes_107 ⟨_, rfl, rfl, h_x0r0, h_x0r0r0, h_x0r0r2, hF⟩
            · have h := it_pos h c18
              refine lv_iconst (v := 1) hx hb dX0_comes_102 (by decide) ?_
              refine lv_goto (tgt := 107) hx hb dX0_comes_103 (by decide) ?_
              obtain rfl := Option.some.inj h
              rw [eQ]
              exact r_zret hx hb hr hlk hS (by decide) (Nat.le_of_ble_eq_true rfl) (Nat.le_of_ble_eq_true rfl) dX0_comes_107 ⟨_, rfl, rfl, h_x0r0, h_x0r0r0, h_x0r0r2, hF⟩
      clear eK13
      refine lv_icmp_ne (tgt := 71) hx hb dX0_comes_62 (by decide) (fun c19 => ?_) (fun c19 => ?_)
      · have h := it_neg h c19
        refine r_gets hx hb hts hown hS 0 rfl q1409 dX0_comes_71 ?_
        refine lv_iload_n hx hb dX0_comes_74 rfl (lv_at hl 1 rfl) ?_
        obtain ⟨i20, xi20, h⟩ := gd_step (by decide) h
        refine r_lald hx hb hS (hS.1.RA hS.1.1.2.2.2.1.1) i20 xi20 dX0_comes_75 ?_
        obtain ⟨v21, ev21, h⟩ := ltl_step h
        refine r_nmL ev21 ?_
        obtain ⟨v22, ev22, h⟩ := lti_step h
        refine r_l2i hx hb ev22 dX0_comes_76 ?_
        exact HK13 v22 h H locs hS hF h_x0 h_x0r0 h_x0r0r0 h_x0r0r1 h_x0r0r2 ls (lv_sub hl [0, 1] rfl)
      · have h := it_pos h c19
        refine lv_sipush (v := 1420) hx hb dX0_comes_65 (by decide) ?_
        refine lv_goto (tgt := 77) hx hb dX0_comes_68 (by decide) ?_
        exact HK13 1420 h H locs hS hF h_x0 h_x0r0 h_x0r0r0 h_x0r0r1 h_x0r0r2 ls (lv_sub hl [0, 1] rfl)
    · have h := it_pos h c11
      exact HK1  h H locs hS hF h_x0 h_x0r0 h_x0r0r0 h_x0r0r1 h_x0r0r2 ls (lv_sub hl [0, 1] rfl)

abbrev R_X0_answer : Room := { frames := 11, cells := 147, slots := 1555, locals := 1460 }
noncomputable def f_X0_answer (x0r0r0c : Nat → UInt64) (x0r0r1c : Nat → UInt64) (x0r0r2c : Nat → Int32) (x0r0f3 : Int32) (x0r0f4 : Int32) (x0r0f5 : Int32) (x0r0f6 : Int32) (x1 : Int32) (x2 : Int32) (x3 : Int32) : Option (Int64 × Int32 × (Nat → UInt64)) :=
  Option.bind (f_X1_house x0r0r0c x0r0r1c x0r0r2c x0r0f3 x0r0f4 x0r0f5 x0r0f6 1) fun o1 =>
  Option.bind (f_X1_isAnswer x0r0r0c x0r0r1c x0r0r2c x0r0f3 x0r0f4 x0r0f5 x0r0f6 x3 x1 x2) fun o2 =>
  lt (fun (v3 : Bool) =>
  lt (fun (f5 : Nat → UInt64) (v6 : Int32) (v7 : Int32) =>
  (show Option (Sum ((Nat → UInt64) × Int32 × Int32) (Sum (Int64 × Int32 × (Nat → UInt64)) ((Nat → UInt64) × Int32))) from (
  (if 2 ≤ v7 then
    some (.inr (.inr (f5, v6)))
  else
    lt (fun (f35 : Nat → UInt64) (v36 : Int32) (v37 : Int32) =>
    lt (fun (v39 : Bool) =>
    (if v37 = (bI v39) then
      lti (v7 + 1) fun v42 =>
      some (.inl (f35, v36, v42))
    else
      some (.inr (.inl ((-9223372036854775808), v36, f35)))
    )
    ) fun K40 =>
    (if v7 = 0 then
      K40 v3
    else
      K40 false
    )
    ) fun K38 =>
    (if x1 = 0 then
      Option.bind (f_X1_sine x0r0r0c f5 x0r0r2c x0r0f3 v6 x0r0f5 x0r0f6 x2 x3) fun o48 =>
      K38 o48.2.2 o48.2.1 o48.1
    else
      (if x1 = 1 then
        Option.bind (f_X1_cosine x0r0r0c f5 x0r0r2c x0r0f3 v6 x0r0f5 x0r0f6 x2 x3) fun o47 =>
        K38 o47.2.2 o47.2.1 o47.1
      else
        Option.bind (f_X1_tangent x0r0r0c f5 x0r0r2c x0r0f3 v6 x0r0f5 x0r0f6 x2 x3) fun o46 =>
        K38 o46.2.2 o46.2.1 o46.1
      )
    )
  )
  ))
  ) fun F31 =>
  Option.bind (lp 9 (fun x => F31 x.1 x.2.1 x.2.2) (x0r0r1c, x0r0f4, 0)) fun w32 =>
  (match w32 with
  | .inl rt => (
  some rt
  )
  | .inr u50 => (
  Option.bind (f_X1_isAnswer x0r0r0c u50.1 x0r0r2c x0r0f3 u50.2 x0r0f5 x0r0f6 x3 x1 x2) fun o51 =>
  (if o51 = true then
    Option.bind (f_X1_house x0r0r0c u50.1 x0r0r2c x0r0f3 u50.2 x0r0f5 x0r0f6 1) fun o53 =>
    lti (o1 + 2) fun v54 =>
    (if o53 = v54 then
      Option.bind (f_X0_told_2 x0r0r0c u50.1 x0r0r2c x0r0f3 u50.2 x0r0f5 x0r0f6 x3) fun o56 =>
      some (o56, u50.2, u50.1)
    else
      some ((-9223372036854775808), u50.2, u50.1)
    )
  else
    some ((-9223372036854775808), u50.2, u50.1)
  )
  ))
  ) fun K4 =>
  (if o2 = true then
    K4 false
  else
    K4 true
  )
theorem hd_X0_answer : Hd yX0_answer 3 := by unfold Hd; decide +kernel
set_option maxHeartbeats 4000000 in
set_option maxRecDepth 100000 in
theorem m_X0_answer {l : Launch} {D : DD} (x0 : Nat) (x0r0 : Nat) (x0r0r0 : Nat) (x0r0r1 : Nat) (x0r0r2 : Nat)  (x0r0r0c : Nat → UInt64) (x0r0r1c : Nat → UInt64) (x0r0r2c : Nat → Int32) (x0r0f3 : Int32) (x0r0f4 : Int32) (x0r0f5 : Int32) (x0r0f6 : Int32) (x1 : Int32) (x2 : Int32) (x3 : Int32) (r : Int64 × Int32 × (Nat → UInt64)) (h : f_X0_answer x0r0r0c x0r0r1c x0r0r2c x0r0f3 x0r0f4 x0r0f5 x0r0f6 x1 x2 x3 = some r) : MT l D yX0_answer cX0_answer 8 (some .long) 11 1460 147 1555 [.ref x0, .int x1, .int x2, .int x3] (fun H => OA D 1 x0 [.ref x0r0] H ∧ ON D 0 x0r0 [.ref x0r0r0, .ref x0r0r1, .ref x0r0r2, .int x0r0f3, .int x0r0f4, .int x0r0f5, .int x0r0f6] H ∧ dB D ≤ x0r0 ∧ aD D x0r0r0 8 x0r0r0c H ∧ aD D x0r0r1 8 x0r0r1c H ∧ dB D ≤ x0r0r1 ∧ aZ D x0r0r2 8 x0r0r2c H ∧ x0 ≠ x0r0 ∧ x0 ≠ x0r0r1 ∧ x0r0 ≠ x0r0r0 ∧ x0r0 ≠ x0r0r1 ∧ x0r0 ≠ x0r0r2 ∧ x0r0r0 ≠ x0r0r1 ∧ x0r0r1 ≠ x0r0r2) (pL (fun H b H' => b = r.1 ∧ ON D 0 x0r0 [.ref x0r0r0, .ref x0r0r1, .ref x0r0r2, .int x0r0f3, .int r.2.1, .int x0r0f5, .int x0r0f6] H' ∧ aD D x0r0r1 8 r.2.2 H' ∧ Off (fun a => a = x0r0 ∨ a = x0r0r1) H H')) := by
  refine MT.start (by decide +kernel) (Nat.le_of_ble_eq_true rfl) ?_
  intro p e s m below meth c ls hC hS hp hl
  obtain ⟨h_x0, h_x0r0, hB_h_x0r0, h_x0r0r0, h_x0r0r1, hB_h_x0r0r1, h_x0r0r2, ne_x0_x0r0, ne_x0_x0r0r1, ne_x0r0_x0r0r0, ne_x0r0_x0r0r1, ne_x0r0_x0r0r2, ne_x0r0r0_x0r0r1, ne_x0r0r1_x0r0r2⟩ := hp
  obtain ⟨hx, hb, hr, hlk, hml, hown, hts, hnm⟩ := id hC
  have hl : lv_has ls 8 [(0, .ref x0), (1, .int x1), (2, .int x2), (3, .int x3)] := hl
  unfold f_X0_answer at h
  have hS0 := hS
  obtain ⟨A, eA⟩ : ∃ A : Array Value, A = [.ref x0, .int x1, .int x2, .int x3].toArray := ⟨_, rfl⟩
  rw [← eA] at hC hts ⊢
  obtain ⟨Q, eQ⟩ : ∃ Q : State → Prop, Q = MQ below (TQ D (pL (fun H b H' => b = r.1 ∧ ON D 0 x0r0 [.ref x0r0r0, .ref x0r0r1, .ref x0r0r2, .int x0r0f3, .int r.2.1, .int x0r0f5, .int x0r0f6] H' ∧ aD D x0r0r1 8 r.2.2 H' ∧ Off (fun a => a = x0r0 ∨ a = x0r0r1) H H'))) A s 147 1555 (fun q => dB D ≤ q) := ⟨_, rfl⟩
  have hF : Off (fun a => a = x0r0 ∨ a = x0r0r1) s.heap s.heap := Off.rf
  show W p l e R_X0_answer s m A below meth c s.heap [] 0 0 _ _
  rw [← eQ]
  obtain ⟨H, eH⟩ : ∃ H : Heap, H = s.heap := ⟨_, rfl⟩
  obtain ⟨locs, eLc⟩ : ∃ L : List Loc, L = [] := ⟨_, rfl⟩
  have lt_h_x0 := h_x0.lt
  have lt_h_x0r0 := h_x0r0.lt
  have lt_h_x0r0r0 := h_x0r0r0.lt
  have lt_h_x0r0r1 := h_x0r0r1.lt
  have lt_h_x0r0r2 := h_x0r0r2.lt
  rw [← eH, ← eLc]
  have hF : Off (fun a => a = x0r0 ∨ a = x0r0r1) s.heap H := by rw [eH]; exact hF
  rw [← eH] at h_x0
  rw [← eH] at h_x0r0
  rw [← eH] at h_x0r0r0
  rw [← eH] at h_x0r0r1
  rw [← eH] at h_x0r0r2
  have hS : St D s H locs := by rw [eH, eLc]; exact hS
  refine lv_aload_n hx hb dX0_answer_0 rfl (lv_at hl 0 rfl) ?_
  refine r_get hx hb hts hown hS h_x0 rfl in_X0 0 (by decide) q936 rfl (v := .ref x0r0) rfl dX0_answer_1 ?_
  refine lv_iconst (v := 1) hx hb dX0_answer_4 (by decide) ?_
  obtain ⟨o1, eo1, h⟩ := bind_step h
  refine r_cp (r_runV (rest := []) (As := [.int 1]) hC 1 (m_X1_house x0r0 x0r0r0 x0r0r1 x0r0r2  x0r0r0c x0r0r1c x0r0r2c x0r0f3 x0r0f4 x0r0f5 x0r0f6 1 o1 eo1) q1248 q1249 q1250 q46 q1251 (OA.recv hS h_x0r0.OA (C := RX1) rfl) hd_X1_house rfl ⟨Nat.le_of_ble_eq_true rfl, Nat.le_of_ble_eq_true rfl⟩ hS ⟨h_x0r0, h_x0r0r0, h_x0r0r1, h_x0r0r2⟩ hl.1 rfl (Nat.le_of_ble_eq_true rfl) dX0_answer_5 ⟨Nat.le_of_ble_eq_true rfl, Nat.le_of_ble_eq_true rfl⟩) ?_
  refine lv_istore (lv' := [(4, .int o1), (0, .ref x0), (1, .int x1), (2, .int x2), (3, .int x3)]) hx hb dX0_answer_8 hl (by decide) rfl (fun ls hl => ?_)
  refine lv_aload_n hx hb dX0_answer_10 rfl (lv_at hl 1 rfl) ?_
  refine r_get hx hb hts hown hS h_x0 rfl in_X0 0 (by decide) q936 rfl (v := .ref x0r0) rfl dX0_answer_11 ?_
  refine lv_iload_n hx hb dX0_answer_14 rfl (lv_at hl 4 rfl) ?_
  refine lv_iload_n hx hb dX0_answer_15 rfl (lv_at hl 2 rfl) ?_
  refine lv_iload_n hx hb dX0_answer_16 rfl (lv_at hl 3 rfl) ?_
  obtain ⟨o2, eo2, h⟩ := bind_step h
  refine r_cz (r_runV (rest := []) (As := [.int x3, .int x1, .int x2]) hC 3 (m_X1_isAnswer x0r0 x0r0r0 x0r0r1 x0r0r2  x0r0r0c x0r0r1c x0r0r2c x0r0f3 x0r0f4 x0r0f5 x0r0f6 x3 x1 x2 o2 eo2) q1419 q1420 q1421 q46 q1422 (OA.recv hS h_x0r0.OA (C := RX1) rfl) hd_X1_isAnswer rfl ⟨Nat.le_of_ble_eq_true rfl, Nat.le_of_ble_eq_true rfl⟩ hS ⟨h_x0r0, h_x0r0r0, h_x0r0r1, h_x0r0r2⟩ hl.1 rfl (Nat.le_of_ble_eq_true rfl) dX0_answer_17 ⟨Nat.le_of_ble_eq_true rfl, Nat.le_of_ble_eq_true rfl⟩) hS (fun b H locs hp hS hz => ?_)
  obtain ⟨eb_, hO⟩ := hp
  rw [eb_]
  have h_x0 := h_x0.ext hO
  have h_x0r0 := h_x0r0.ext hO
  have h_x0r0r0 := h_x0r0r0.ext hO
  have h_x0r0r1 := h_x0r0r1.ext hO
  have h_x0r0r2 := h_x0r0r2.ext hO
  have hF := hF.trans (hO.mono (fun _ _ z => z.elim))
  obtain ⟨K4, eK4, h⟩ := lt_step h
  have HK4 : ∀ (v3 : Bool) (h : K4 v3 = some r) (H : Heap) (locs : List Loc) (hS : St D s H locs) (hF : Off (fun a => a = x0r0 ∨ a = x0r0r1) s.heap H) (h_x0 : OA D 1 x0 [.ref x0r0] H) (h_x0r0 : ON D 0 x0r0 [.ref x0r0r0, .ref x0r0r1, .ref x0r0r2, .int x0r0f3, .int x0r0f4, .int x0r0f5, .int x0r0f6] H) (h_x0r0r0 : aD D x0r0r0 8 x0r0r0c H) (h_x0r0r1 : aD D x0r0r1 8 x0r0r1c H) (h_x0r0r2 : aZ D x0r0r2 8 x0r0r2c H) (ls : Array Slot) (hl : lv_has ls 8 [(0, .ref x0), (1, .int x1), (2, .int x2), (3, .int x3), (4, .int o1)]), W p l e R_X0_answer s m A below meth c H locs 8 87 Q (F0 m 28 ls [.int (bI v3)]) := by
    intro v3 h H locs hS hF h_x0 h_x0r0 h_x0r0r0 h_x0r0r1 h_x0r0r2 ls hl
    subst eK4
    refine lv_istore (lv' := [(5, .int (bI v3)), (0, .ref x0), (1, .int x1), (2, .int x2), (3, .int x3), (4, .int o1)]) hx hb dX0_answer_28 hl (by decide) rfl (fun ls hl => ?_)
    refine lv_iconst (v := 0) hx hb dX0_answer_30 (by decide) ?_
    refine lv_istore (lv' := [(6, .int 0), (5, .int (bI v3)), (0, .ref x0), (1, .int x1), (2, .int x2), (3, .int x3), (4, .int o1)]) hx hb dX0_answer_31 hl (by decide) rfl (fun ls hl => ?_)
    obtain ⟨F31, eF31, h⟩ := lt_step h
    obtain ⟨w32, ew32, h⟩ := bind_step h
    obtain ⟨CE, eCE⟩ : ∃ x : Nat, x = 8 + 54 := ⟨_, rfl⟩
    obtain ⟨SE, eSE⟩ : ∃ x : Nat, x = 87 + 765 := ⟨_, rfl⟩
    have hCE : CE ≤ R_X0_answer.cells := (by rw [eCE]; exact Nat.le_of_ble_eq_true rfl)
    have hSE : SE ≤ R_X0_answer.slots := (by rw [eSE]; exact Nat.le_of_ble_eq_true rfl)
    have HL : ∀ (n : Nat) (f5 : Nat → UInt64) (v6 : Int32) (v7 : Int32) (w32 : Sum (Int64 × Int32 × (Nat → UInt64)) ((Nat → UInt64) × Int32)) (hk0 : lp n (fun x => F31 x.1 x.2.1 x.2.2) (f5, v6, v7) = some w32) (cl : Nat) (sl : Nat) (hcl : cl + 6 * n ≤ CE) (hsl : sl + 85 * n ≤ SE) (H : Heap) (locs : List Loc) (hS : St D s H locs) (hF : Off (fun a => a = x0r0 ∨ a = x0r0r1) s.heap H) (h_x0 : OA D 1 x0 [.ref x0r0] H) (h_x0r0 : ON D 0 x0r0 [.ref x0r0r0, .ref x0r0r1, .ref x0r0r2, .int x0r0f3, .int v6, .int x0r0f5, .int x0r0f6] H) (h_x0r0r0 : aD D x0r0r0 8 x0r0r0c H) (h_x0r0r1 : aD D x0r0r1 8 f5 H) (h_x0r0r2 : aZ D x0r0r2 8 x0r0r2c H) (ls : Array Slot) (hl : lv_has ls 8 [(0, .ref x0), (1, .int x1), (2, .int x2), (3, .int x3), (4, .int o1), (5, .int (bI v3)), (6, .int v7)]) (KR : ∀ rt, w32 = .inl rt → rt = r) (K109 : ∀ (u49 : (Nat → UInt64) × Int32) (eu49 : w32 = .inr u49) (H : Heap) (locs : List Loc) (hS : St D s H locs) (hF : Off (fun a => a = x0r0 ∨ a = x0r0r1) s.heap H) (h_x0 : OA D 1 x0 [.ref x0r0] H) (h_x0r0 : ON D 0 x0r0 [.ref x0r0r0, .ref x0r0r1, .ref x0r0r2, .int x0r0f3, .int u49.2, .int x0r0f5, .int x0r0f6] H) (h_x0r0r0 : aD D x0r0r0 8 x0r0r0c H) (h_x0r0r1 : aD D x0r0r1 8 u49.1 H) (h_x0r0r2 : aZ D x0r0r2 8 x0r0r2c H) (ls : Array Slot) (hl : lv_has ls 8 [(0, .ref x0), (1, .int x1), (2, .int x2), (3, .int x3), (4, .int o1)]), W p l e R_X0_answer s m A below meth c H locs CE SE Q (F0 m 109 ls [])), W p l e R_X0_answer s m A below meth c H locs cl sl Q (F0 m 33 ls []) := by
      intro n
      induction n with
      | zero => intro f5 v6 v7 w32 hk0 cl sl hcl hsl H locs hS hF h_x0 h_x0r0 h_x0r0r0 h_x0r0r1 h_x0r0r2 ls hl KR K109; exact lp_zero hk0
      | succ n ih =>
        intro f5 v6 v7 w32 hk0 cl sl hcl hsl H locs hS hF h_x0 h_x0r0 h_x0r0r0 h_x0r0r1 h_x0r0r2 ls hl KR K109
        obtain ⟨z33, hz, hk⟩ := lp_step hk0
        have h := (congrFun (congrFun (congrFun (eF31) f5) v6) v7).symm.trans hz
        have hcO : cl + 6 ≤ CE := al_out hcl
        have hcE : cl + 6 ≤ R_X0_answer.cells := Nat.le_trans hcO hCE
        have hcN : ∀ a, a ≤ 6 → cl + a + 6 * n ≤ CE := fun a ha => al_next hcl ha
        have hcN0 : cl + 6 * n ≤ CE := al_next hcl (Nat.zero_le _)
        have hsO : sl + 85 ≤ SE := al_out hsl
        have hsE : sl + 85 ≤ R_X0_answer.slots := Nat.le_trans hsO hSE
        have hsN : ∀ a, a ≤ 85 → sl + a + 85 * n ≤ SE := fun a ha => al_next hsl ha
        have hsN0 : sl + 85 * n ≤ SE := al_next hsl (Nat.zero_le _)
        clear hcl hsl
        refine lv_iload hx hb dX0_answer_33 (lv_at hl 6 rfl) ?_
        refine lv_iconst (v := 2) hx hb dX0_answer_35 (by decide) ?_
        refine lv_icmp_ge (tgt := 109) hx hb dX0_answer_36 (by decide) (fun c34 => ?_) (fun c34 => ?_)
        · have h := it_pos h c34
          obtain rfl := Option.some.inj h
          refine W.widen (k := CE) (n := SE) (by omega) (by omega) ?_
          exact K109 (f5, v6) hk.symm H locs hS hF h_x0 h_x0r0 h_x0r0r0 h_x0r0r1 h_x0r0r2 ls (lv_sub hl [0, 1, 2, 3, 4] rfl)
        · have h := it_neg h c34
          refine lv_iload_n hx hb dX0_answer_39 rfl (lv_at hl 1 rfl) ?_
          obtain ⟨K38, eK38, h⟩ := lt_step h
          have HK38 : ∀ (f35 : Nat → UInt64) (v36 : Int32) (v37 : Int32) (h : K38 f35 v36 v37 = some z33) (H : Heap) (locs : List Loc) (hS : St D s H locs) (hF : Off (fun a => a = x0r0 ∨ a = x0r0r1) s.heap H) (h_x0 : OA D 1 x0 [.ref x0r0] H) (h_x0r0 : ON D 0 x0r0 [.ref x0r0r0, .ref x0r0r1, .ref x0r0r2, .int x0r0f3, .int v36, .int x0r0f5, .int x0r0f6] H) (h_x0r0r0 : aD D x0r0r0 8 x0r0r0c H) (h_x0r0r1 : aD D x0r0r1 8 f35 H) (h_x0r0r2 : aZ D x0r0r2 8 x0r0r2c H) (ls : Array Slot) (hl : lv_has ls 8 [(0, .ref x0), (1, .int x1), (2, .int x2), (3, .int x3), (4, .int o1), (5, .int (bI v3)), (6, .int v7)]), W p l e R_X0_answer s m A below meth c H locs (cl + 6) (sl + 85) Q (F0 m 81 ls [.int v37]) := by
            intro f35 v36 v37 h H locs hS hF h_x0 h_x0r0 h_x0r0r0 h_x0r0r1 h_x0r0r2 ls hl
            subst eK38
            refine lv_istore (lv' := [(7, .int v37), (0, .ref x0), (1, .int x1), (2, .int x2), (3, .int x3), (4, .int o1), (5, .int (bI v3)), (6, .int v7)]) hx hb dX0_answer_81 hl (by decide) rfl (fun ls hl => ?_)
            refine lv_iload hx hb dX0_answer_83 (lv_at hl 0 rfl) ?_
            refine lv_iload hx hb dX0_answer_85 (lv_at hl 7 rfl) ?_
            obtain ⟨K40, eK40, h⟩ := lt_step h
            have HK40 : ∀ (v39 : Bool) (h : K40 v39 = some z33) (H : Heap) (locs : List Loc) (hS : St D s H locs) (hF : Off (fun a => a = x0r0 ∨ a = x0r0r1) s.heap H) (h_x0 : OA D 1 x0 [.ref x0r0] H) (h_x0r0 : ON D 0 x0r0 [.ref x0r0r0, .ref x0r0r1, .ref x0r0r2, .int x0r0f3, .int v36, .int x0r0f5, .int x0r0f6] H) (h_x0r0r0 : aD D x0r0r0 8 x0r0r0c H) (h_x0r0r1 : aD D x0r0r1 8 f35 H) (h_x0r0r2 : aZ D x0r0r2 8 x0r0r2c H) (ls : Array Slot) (hl : lv_has ls 8 [(0, .ref x0), (1, .int x1), (2, .int x2), (3, .int x3), (4, .int o1), (5, .int (bI v3)), (6, .int v7)]), W p l e R_X0_answer s m A below meth c H locs (cl + 6) (sl + 85) Q (F0 m 96 ls [.int (bI v39), .int v37]) := by
              intro v39 h H locs hS hF h_x0 h_x0r0 h_x0r0r0 h_x0r0r1 h_x0r0r2 ls hl
              subst eK40
              refine lv_icmp_eq (tgt := 103) hx hb dX0_answer_96 (by decide) (fun c41 => ?_) (fun c41 => ?_)
              · have h := it_pos h c41
                obtain ⟨v42, ev42, h⟩ := lti_step h
                refine lv_iinc (v := v42) (lv' := [(6, .int v42), (0, .ref x0), (1, .int x1), (2, .int x2), (3, .int x3), (4, .int o1), (5, .int (bI v3))]) hx hb dX0_answer_103 hl (k := 6) rfl (by rw [ev42]; rfl) (by decide) rfl (fun ls hl => ?_)
                refine lv_goto (tgt := 33) hx hb dX0_answer_106 (by decide) ?_
                obtain rfl := Option.some.inj h
                exact ih f35 v36 v42 w32 hk _ _ (hcN 6 (Nat.le_of_ble_eq_true rfl)) (hsN 85 (Nat.le_of_ble_eq_true rfl)) H locs hS hF h_x0 h_x0r0 h_x0r0r0 h_x0r0r1 h_x0r0r2 ls (lv_sub hl [1, 2, 3, 4, 5, 6, 0] rfl) KR K109
              · have h := it_neg h c41
                refine lv_ldc2 hx hb (v := (-9223372036854775808)) hown (hts _ q1238) dX0_answer_99 ?_
                obtain rfl := Option.some.inj h
                have h := congrArg some (KR _ hk.symm)
                refine W.widen (k := CE) (n := SE) (by omega) (by omega) ?_
                obtain rfl := Option.some.inj h
                rw [eQ]
                exact r_lret hx hb hr hlk hS hCE hSE dX0_answer_102 ⟨_, rfl, rfl, h_x0r0, h_x0r0r1, hF⟩
            clear eK40
            refine lv_if_ne (tgt := 95) hx hb dX0_answer_87 (by decide) (fun c43 => ?_) (fun c43 => ?_)
            · have h := it_neg h c43
              refine lv_iconst (v := 0) hx hb dX0_answer_95 (by decide) ?_
              exact HK40 false h H locs hS hF h_x0 h_x0r0 h_x0r0r0 h_x0r0r1 h_x0r0r2 ls (lv_sub hl [1, 2, 3, 4, 5, 6, 7] rfl)
            · have h := it_pos h c43
              refine lv_iload hx hb dX0_answer_90 (lv_at hl 6 rfl) ?_
              refine lv_goto (tgt := 96) hx hb dX0_answer_92 (by decide) ?_
              exact HK40 v3 h H locs hS hF h_x0 h_x0r0 h_x0r0r0 h_x0r0r1 h_x0r0r2 ls (lv_sub hl [1, 2, 3, 4, 5, 6, 7] rfl)
          clear eK38
          refine lv_if_ne (tgt := 55) hx hb dX0_answer_40 (by decide) (fun c44 => ?_) (fun c44 => ?_)
          · have h := it_neg h c44
            refine lv_iload_n hx hb dX0_answer_55 rfl (lv_at hl 1 rfl) ?_
            refine lv_iconst (v := 1) hx hb dX0_answer_56 (by decide) ?_
            refine lv_icmp_ne (tgt := 72) hx hb dX0_answer_57 (by decide) (fun c45 => ?_) (fun c45 => ?_)
            · have h := it_neg h c45
              refine lv_aload_n hx hb dX0_answer_72 rfl (lv_at hl 0 rfl) ?_
              refine r_get hx hb hts hown hS h_x0 rfl in_X0 0 (by decide) q936 rfl (v := .ref x0r0) rfl dX0_answer_73 ?_
              refine lv_iload_n hx hb dX0_answer_76 rfl (lv_at hl 2 rfl) ?_
              refine lv_iload_n hx hb dX0_answer_77 rfl (lv_at hl 3 rfl) ?_
              obtain ⟨o46, eo46, h⟩ := bind_step h
              refine r_ci (r_runV (rest := []) (As := [.int x2, .int x3]) hC 2 (m_X1_tangent x0r0 x0r0r0 x0r0r1 x0r0r2  x0r0r0c f5 x0r0r2c x0r0f3 v6 x0r0f5 x0r0f6 x2 x3 o46 eo46) q1463 q1464 q1465 q46 q1466 (OA.recv hS h_x0r0.OA (C := RX1) rfl) hd_X1_tangent rfl ⟨Nat.le_of_ble_eq_true rfl, Nat.le_of_ble_eq_true rfl⟩ hS ⟨h_x0r0, hB_h_x0r0, h_x0r0r0, h_x0r0r1, hB_h_x0r0r1, h_x0r0r2, ne_x0r0_x0r0r0, ne_x0r0_x0r0r1, ne_x0r0_x0r0r2, ne_x0r0r0_x0r0r1, ne_x0r0r1_x0r0r2⟩ hl.1 rfl (Nat.le_of_ble_eq_true rfl) dX0_answer_78 ⟨by have := hcE; have := hsE; omega, by have := hcE; have := hsE; omega⟩) hS (fun b H locs hp hS hz => ?_)
              obtain ⟨rfl, h_x0r0, h_x0r0r1, hO⟩ := hp
              have h_x0 := h_x0.off hO (fun z => by rcases z with z | z <;> first | exact ne_x0_x0r0 z | exact ne_x0_x0r0r1 z)
              have h_x0r0r0 := h_x0r0r0.off hO (fun z => by rcases z with z | z <;> first | exact (Ne.symm ne_x0r0_x0r0r0) z | exact ne_x0r0r0_x0r0r1 z)
              have h_x0r0r2 := h_x0r0r2.off hO (fun z => by rcases z with z | z <;> first | exact (Ne.symm ne_x0r0_x0r0r2) z | exact (Ne.symm ne_x0r0r1_x0r0r2) z)
              have hF := hF.fresh hO (fun a ha z => by
                rcases z with z | z
                · exact Or.inl z
                · exact Or.inr (z))
              exact HK38 o46.2.2 o46.2.1 o46.1 h H locs hS hF h_x0 h_x0r0 h_x0r0r0 h_x0r0r1 h_x0r0r2 ls (lv_sub hl [0, 1, 2, 3, 4, 5, 6] rfl)
            · have h := it_pos h c45
              refine lv_aload_n hx hb dX0_answer_60 rfl (lv_at hl 0 rfl) ?_
              refine r_get hx hb hts hown hS h_x0 rfl in_X0 0 (by decide) q936 rfl (v := .ref x0r0) rfl dX0_answer_61 ?_
              refine lv_iload_n hx hb dX0_answer_64 rfl (lv_at hl 2 rfl) ?_
              refine lv_iload_n hx hb dX0_answer_65 rfl (lv_at hl 3 rfl) ?_
              obtain ⟨o47, eo47, h⟩ := bind_step h
              refine r_ci (r_runV (rest := []) (As := [.int x2, .int x3]) hC 2 (m_X1_cosine x0r0 x0r0r0 x0r0r1 x0r0r2  x0r0r0c f5 x0r0r2c x0r0f3 v6 x0r0f5 x0r0f6 x2 x3 o47 eo47) q1459 q1460 q1461 q46 q1462 (OA.recv hS h_x0r0.OA (C := RX1) rfl) hd_X1_cosine rfl ⟨Nat.le_of_ble_eq_true rfl, Nat.le_of_ble_eq_true rfl⟩ hS ⟨h_x0r0, hB_h_x0r0, h_x0r0r0, h_x0r0r1, hB_h_x0r0r1, h_x0r0r2, ne_x0r0_x0r0r0, ne_x0r0_x0r0r1, ne_x0r0_x0r0r2, ne_x0r0r0_x0r0r1, ne_x0r0r1_x0r0r2⟩ hl.1 rfl (Nat.le_of_ble_eq_true rfl) dX0_answer_66 ⟨by have := hcE; have := hsE; omega, by have := hcE; have := hsE; omega⟩) hS (fun b H locs hp hS hz => ?_)
              obtain ⟨rfl, h_x0r0, h_x0r0r1, hO⟩ := hp
              have h_x0 := h_x0.off hO (fun z => by rcases z with z | z <;> first | exact ne_x0_x0r0 z | exact ne_x0_x0r0r1 z)
              have h_x0r0r0 := h_x0r0r0.off hO (fun z => by rcases z with z | z <;> first | exact (Ne.symm ne_x0r0_x0r0r0) z | exact ne_x0r0r0_x0r0r1 z)
              have h_x0r0r2 := h_x0r0r2.off hO (fun z => by rcases z with z | z <;> first | exact (Ne.symm ne_x0r0_x0r0r2) z | exact (Ne.symm ne_x0r0r1_x0r0r2) z)
              have hF := hF.fresh hO (fun a ha z => by
                rcases z with z | z
                · exact Or.inl z
                · exact Or.inr (z))
              refine lv_goto (tgt := 81) hx hb dX0_answer_69 (by decide) ?_
              exact HK38 o47.2.2 o47.2.1 o47.1 h H locs hS hF h_x0 h_x0r0 h_x0r0r0 h_x0r0r1 h_x0r0r2 ls (lv_sub hl [0, 1, 2, 3, 4, 5, 6] rfl)
          · have h := it_pos h c44
            refine lv_aload_n hx hb dX0_answer_43 rfl (lv_at hl 0 rfl) ?_
            refine r_get hx hb hts hown hS h_x0 rfl in_X0 0 (by decide) q936 rfl (v := .ref x0r0) rfl dX0_answer_44 ?_
            refine lv_iload_n hx hb dX0_answer_47 rfl (lv_at hl 2 rfl) ?_
            refine lv_iload_n hx hb dX0_answer_48 rfl (lv_at hl 3 rfl) ?_
            obtain ⟨o48, eo48, h⟩ := bind_step h
            refine r_ci (r_runV (rest := []) (As := [.int x2, .int x3]) hC 2 (m_X1_sine x0r0 x0r0r0 x0r0r1 x0r0r2  x0r0r0c f5 x0r0r2c x0r0f3 v6 x0r0f5 x0r0f6 x2 x3 o48 eo48) q1373 q1374 q1375 q46 q1376 (OA.recv hS h_x0r0.OA (C := RX1) rfl) hd_X1_sine rfl ⟨Nat.le_of_ble_eq_true rfl, Nat.le_of_ble_eq_true rfl⟩ hS ⟨h_x0r0, hB_h_x0r0, h_x0r0r0, h_x0r0r1, hB_h_x0r0r1, h_x0r0r2, ne_x0r0_x0r0r0, ne_x0r0_x0r0r1, ne_x0r0_x0r0r2, ne_x0r0r0_x0r0r1, ne_x0r0r1_x0r0r2⟩ hl.1 rfl (Nat.le_of_ble_eq_true rfl) dX0_answer_49 ⟨by have := hcE; have := hsE; omega, by have := hcE; have := hsE; omega⟩) hS (fun b H locs hp hS hz => ?_)
            obtain ⟨rfl, h_x0r0, h_x0r0r1, hO⟩ := hp
            have h_x0 := h_x0.off hO (fun z => by rcases z with z | z <;> first | exact ne_x0_x0r0 z | exact ne_x0_x0r0r1 z)
            have h_x0r0r0 := h_x0r0r0.off hO (fun z => by rcases z with z | z <;> first | exact (Ne.symm ne_x0r0_x0r0r0) z | exact ne_x0r0r0_x0r0r1 z)
            have h_x0r0r2 := h_x0r0r2.off hO (fun z => by rcases z with z | z <;> first | exact (Ne.symm ne_x0r0_x0r0r2) z | exact (Ne.symm ne_x0r0r1_x0r0r2) z)
            have hF := hF.fresh hO (fun a ha z => by
              rcases z with z | z
              · exact Or.inl z
              · exact Or.inr (z))
            refine lv_goto (tgt := 81) hx hb dX0_answer_52 (by decide) ?_
            exact HK38 o48.2.2 o48.2.1 o48.1 h H locs hS hF h_x0 h_x0r0 h_x0r0r0 h_x0r0r1 h_x0r0r2 ls (lv_sub hl [0, 1, 2, 3, 4, 5, 6] rfl)
    clear eF31
    refine HL 9 x0r0r1c x0r0f4 0 w32 ew32 _ _ (Nat.le_of_eq eCE.symm) (Nat.le_of_eq eSE.symm) H locs hS hF h_x0 h_x0r0 h_x0r0r0 h_x0r0r1 h_x0r0r2 ls (lv_sub hl [2, 3, 4, 5, 6, 1, 0] rfl) (fun rt eR => ?_) (fun u50 eu50 H locs hS hF h_x0 h_x0r0 h_x0r0r0 h_x0r0r1 h_x0r0r2 ls hl => ?_)
    · subst eR
      exact Option.some.inj h
    · subst eu50
      rw [eCE, eSE]
      refine lv_aload_n hx hb dX0_answer_109 rfl (lv_at hl 0 rfl) ?_
      refine r_get hx hb hts hown hS h_x0 rfl in_X0 0 (by decide) q936 rfl (v := .ref x0r0) rfl dX0_answer_110 ?_
      refine lv_iload_n hx hb dX0_answer_113 rfl (lv_at hl 3 rfl) ?_
      refine lv_iload_n hx hb dX0_answer_114 rfl (lv_at hl 1 rfl) ?_
      refine lv_iload_n hx hb dX0_answer_115 rfl (lv_at hl 2 rfl) ?_
      obtain ⟨o51, eo51, h⟩ := bind_step h
      refine r_cz (r_runV (rest := []) (As := [.int x3, .int x1, .int x2]) hC 3 (m_X1_isAnswer x0r0 x0r0r0 x0r0r1 x0r0r2  x0r0r0c u50.1 x0r0r2c x0r0f3 u50.2 x0r0f5 x0r0f6 x3 x1 x2 o51 eo51) q1419 q1420 q1421 q46 q1422 (OA.recv hS h_x0r0.OA (C := RX1) rfl) hd_X1_isAnswer rfl ⟨Nat.le_of_ble_eq_true rfl, Nat.le_of_ble_eq_true rfl⟩ hS ⟨h_x0r0, h_x0r0r0, h_x0r0r1, h_x0r0r2⟩ hl.1 rfl (Nat.le_of_ble_eq_true rfl) dX0_answer_116 ⟨Nat.le_of_ble_eq_true rfl, Nat.le_of_ble_eq_true rfl⟩) hS (fun b H locs hp hS hz => ?_)
      obtain ⟨eb_, hO⟩ := hp
      rw [eb_]
      have h_x0 := h_x0.ext hO
      have h_x0r0 := h_x0r0.ext hO
      have h_x0r0r0 := h_x0r0r0.ext hO
      have h_x0r0r1 := h_x0r0r1.ext hO
      have h_x0r0r2 := h_x0r0r2.ext hO
      have hF := hF.trans (hO.mono (fun _ _ z => z.elim))
      refine r_ifz_eq (tgt := 145) hx hb dX0_answer_119 (by decide) (fun c52 => ?_) (fun c52 => ?_)
      · have h := it_neg h (by rw [c52]; decide)
        refine lv_ldc2 hx hb (v := (-9223372036854775808)) hown (hts _ q1238) dX0_answer_145 ?_
        obtain rfl := Option.some.inj h
        rw [eQ]
        exact r_lret hx hb hr hlk hS (Nat.le_of_ble_eq_true rfl) (Nat.le_of_ble_eq_true rfl) dX0_answer_148 ⟨_, rfl, rfl, h_x0r0, h_x0r0r1, hF⟩
      · have h := it_pos h (by rw [c52])
        refine lv_aload_n hx hb dX0_answer_122 rfl (lv_at hl 0 rfl) ?_
        refine r_get hx hb hts hown hS h_x0 rfl in_X0 0 (by decide) q936 rfl (v := .ref x0r0) rfl dX0_answer_123 ?_
        refine lv_iconst (v := 1) hx hb dX0_answer_126 (by decide) ?_
        obtain ⟨o53, eo53, h⟩ := bind_step h
        refine r_cp (r_runV (rest := []) (As := [.int 1]) hC 1 (m_X1_house x0r0 x0r0r0 x0r0r1 x0r0r2  x0r0r0c u50.1 x0r0r2c x0r0f3 u50.2 x0r0f5 x0r0f6 1 o53 eo53) q1248 q1249 q1250 q46 q1251 (OA.recv hS h_x0r0.OA (C := RX1) rfl) hd_X1_house rfl ⟨Nat.le_of_ble_eq_true rfl, Nat.le_of_ble_eq_true rfl⟩ hS ⟨h_x0r0, h_x0r0r0, h_x0r0r1, h_x0r0r2⟩ hl.1 rfl (Nat.le_of_ble_eq_true rfl) dX0_answer_127 ⟨Nat.le_of_ble_eq_true rfl, Nat.le_of_ble_eq_true rfl⟩) ?_
        refine lv_iload hx hb dX0_answer_130 (lv_at hl 4 rfl) ?_
        refine lv_iconst (v := 2) hx hb dX0_answer_132 (by decide) ?_
        obtain ⟨v54, ev54, h⟩ := lti_step h
        refine r_iadd hx hb ev54 dX0_answer_133 ?_
        refine lv_icmp_ne (tgt := 145) hx hb dX0_answer_134 (by decide) (fun c55 => ?_) (fun c55 => ?_)
        · have h := it_neg h c55
          refine lv_ldc2 hx hb (v := (-9223372036854775808)) hown (hts _ q1238) dX0_answer_145 ?_
          obtain rfl := Option.some.inj h
          rw [eQ]
          exact r_lret hx hb hr hlk hS (Nat.le_of_ble_eq_true rfl) (Nat.le_of_ble_eq_true rfl) dX0_answer_148 ⟨_, rfl, rfl, h_x0r0, h_x0r0r1, hF⟩
        · have h := it_pos h c55
          refine lv_aload_n hx hb dX0_answer_137 rfl (lv_at hl 0 rfl) ?_
          refine lv_iload_n hx hb dX0_answer_138 rfl (lv_at hl 3 rfl) ?_
          obtain ⟨o56, eo56, h⟩ := bind_step h
          refine r_cl (r_runV (rest := []) (As := [.int x3]) hC 1 (m_X0_told_2 x0 x0r0 x0r0r0 x0r0r1 x0r0r2  x0r0r0c u50.1 x0r0r2c x0r0f3 u50.2 x0r0f5 x0r0f6 x3 o56 eo56) q1194 q1196 qs12 q39 q1197 (OA.recv hS h_x0 (C := RX0) rfl) hd_X0_told_2 rfl ⟨Nat.le_of_ble_eq_true rfl, Nat.le_of_ble_eq_true rfl⟩ hS ⟨h_x0, h_x0r0, h_x0r0r0, h_x0r0r1, h_x0r0r2⟩ hl.1 rfl (Nat.le_of_ble_eq_true rfl) dX0_answer_139 ⟨Nat.le_of_ble_eq_true rfl, Nat.le_of_ble_eq_true rfl⟩) hS (fun b H locs hp hS hz => ?_)
          obtain ⟨eb_, hO⟩ := hp
          rw [eb_]
          have h_x0 := h_x0.ext hO
          have h_x0r0 := h_x0r0.ext hO
          have h_x0r0r0 := h_x0r0r0.ext hO
          have h_x0r0r1 := h_x0r0r1.ext hO
          have h_x0r0r2 := h_x0r0r2.ext hO
          have hF := hF.trans (hO.mono (fun _ _ z => z.elim))
          refine lv_goto (tgt := 148) hx hb dX0_answer_142 (by decide) ?_
          obtain rfl := Option.some.inj h
          rw [eQ]
          exact r_lret hx hb hr hlk hS (Nat.le_of_ble_eq_true rfl) (Nat.le_of_ble_eq_true rfl) dX0_answer_148 ⟨_, rfl, rfl, h_x0r0, h_x0r0r1, hF⟩
  clear eK4
  refine r_ifz_eq (tgt := 27) hx hb dX0_answer_20 (by decide) (fun c57 => ?_) (fun c57 => ?_)
  · have h := it_neg h (by rw [c57]; decide)
    refine lv_iconst (v := 1) hx hb dX0_answer_27 (by decide) ?_
    exact HK4 true h H locs hS hF h_x0 h_x0r0 h_x0r0r0 h_x0r0r1 h_x0r0r2 ls (lv_sub hl [1, 2, 3, 4, 0] rfl)
  · have h := it_pos h (by rw [c57])
    refine lv_iconst (v := 0) hx hb dX0_answer_23 (by decide) ?_
    refine lv_goto (tgt := 28) hx hb dX0_answer_24 (by decide) ?_
    exact HK4 false h H locs hS hF h_x0 h_x0r0 h_x0r0r0 h_x0r0r1 h_x0r0r2 ls (lv_sub hl [1, 2, 3, 4, 0] rfl)

abbrev R_X0_cell : Room := { frames := 0, cells := 0, slots := 0, locals := 0 }
noncomputable def f_X0_cell (x0n : Nat) (x0c : Nat → Int32) (x1 : Int32) : Option (Int32) :=
  (if (nI x0n) ≤ x1 then
    some 0
  else
    (if 16 ≤ x1 then
      some 0
    else
      gd x0n x1 fun i3 =>
      lti (x0c i3) fun v4 =>
      some v4
    )
  )
theorem hd_X0_cell : Hd yX0_cell 2 := by unfold Hd; decide +kernel
set_option maxHeartbeats 4000000 in
set_option maxRecDepth 100000 in
theorem m_X0_cell {l : Launch} {D : DD} (x0 : Nat)  (x0n : Nat) (x0c : Nat → Int32) (x1 : Int32) (r : Int32) (h : f_X0_cell x0n x0c x1 = some r) : MP l D yX0_cell cX0_cell 2 (some .int) 0 0 [.ref x0, .int x1] (fun H => aI D x0 x0n x0c H ∧ x0n ≤ 1000000) (some (.int r)) := by
  refine MP.start (by decide +kernel) (Nat.le_of_ble_eq_true rfl) ?_
  intro p e s m below meth c ls hC hS hp hl
  obtain ⟨h_x0, l_x0⟩ := hp
  obtain ⟨hx, hb, hr, hlk, hml, hown, hts, hnm⟩ := id hC
  have hl : lv_has ls 2 [(0, .ref x0), (1, .int x1)] := hl
  unfold f_X0_cell at h
  have hS0 := hS
  obtain ⟨A, eA⟩ : ∃ A : Array Value, A = [.ref x0, .int x1].toArray := ⟨_, rfl⟩
  rw [← eA] at hC hts ⊢
  obtain ⟨Q, eQ⟩ : ∃ Q : State → Prop, Q = MQ below (PQ (some (.int r))) A s 0 0 (fun _ => False) := ⟨_, rfl⟩
  show W p l e R_X0_cell s m A below meth c s.heap [] 0 0 _ _
  rw [← eQ]
  refine lv_iload_n hx hb dX0_cell_0 rfl (lv_at hl 1 rfl) ?_
  refine lv_aload_n hx hb dX0_cell_1 rfl (lv_at hl 0 rfl) ?_
  refine r_alen hx hb hS h_x0 dX0_cell_2 ?_
  refine lv_icmp_ge (tgt := 18) hx hb dX0_cell_3 (by decide) (fun c1 => ?_) (fun c1 => ?_)
  · have h := it_pos h c1
    refine lv_iconst (v := 0) hx hb dX0_cell_18 (by decide) ?_
    obtain rfl := Option.some.inj h
    rw [eQ]
    exact p_iret hx hb hr hlk dX0_cell_19 rfl
  · have h := it_neg h c1
    refine lv_iload_n hx hb dX0_cell_6 rfl (lv_at hl 1 rfl) ?_
    refine lv_bipush (v := 16) hx hb dX0_cell_7 (by decide) ?_
    refine lv_icmp_ge (tgt := 18) hx hb dX0_cell_9 (by decide) (fun c2 => ?_) (fun c2 => ?_)
    · have h := it_pos h c2
      refine lv_iconst (v := 0) hx hb dX0_cell_18 (by decide) ?_
      obtain rfl := Option.some.inj h
      rw [eQ]
      exact p_iret hx hb hr hlk dX0_cell_19 rfl
    · have h := it_neg h c2
      refine lv_aload_n hx hb dX0_cell_12 rfl (lv_at hl 0 rfl) ?_
      refine lv_iload_n hx hb dX0_cell_13 rfl (lv_at hl 1 rfl) ?_
      obtain ⟨i3, xi3, h⟩ := gd_step (nl0 l_x0) h
      refine r_iald hx hb hS h_x0 i3 xi3 dX0_cell_14 ?_
      obtain ⟨v4, ev4, h⟩ := lti_step h
      refine r_nmI ev4 ?_
      refine lv_goto (tgt := 19) hx hb dX0_cell_15 (by decide) ?_
      obtain rfl := Option.some.inj h
      rw [eQ]
      exact p_iret hx hb hr hlk dX0_cell_19 rfl

abbrev R_X0_size : Room := { frames := 0, cells := 0, slots := 0, locals := 0 }
noncomputable def f_X0_size (x0 : Int64) : Option (Int64) :=
  lti (lg_cmp x0 0) fun v1 =>
  (if 0 ≤ v1 then
    some x0
  else
    ltl (-x0) fun v3 =>
    some v3
  )
theorem hd_X0_size : Hd yX0_size 1 := by unfold Hd; decide +kernel
set_option maxHeartbeats 4000000 in
set_option maxRecDepth 100000 in
theorem m_X0_size {l : Launch} {D : DD}   (x0 : Int64) (r : Int64) (h : f_X0_size x0 = some r) : MP l D yX0_size cX0_size 2 (some .long) 0 0 [.long x0] NoPre (some (.long r)) := by
  refine MP.start (by decide +kernel) (Nat.le_of_ble_eq_true rfl) ?_
  intro p e s m below meth c ls hC hS hp hl
  obtain ⟨hx, hb, hr, hlk, hml, hown, hts, hnm⟩ := id hC
  have hl : lv_has ls 2 [(0, .long x0)] := hl
  unfold f_X0_size at h
  have hS0 := hS
  obtain ⟨A, eA⟩ : ∃ A : Array Value, A = [.long x0].toArray := ⟨_, rfl⟩
  rw [← eA] at hC hts ⊢
  obtain ⟨Q, eQ⟩ : ∃ Q : State → Prop, Q = MQ below (PQ (some (.long r))) A s 0 0 (fun _ => False) := ⟨_, rfl⟩
  show W p l e R_X0_size s m A below meth c s.heap [] 0 0 _ _
  rw [← eQ]
  refine lv_lload_n hx hb dX0_size_0 rfl (lv_at hl 0 rfl) ?_
  refine lv_lconst (v := 0) hx hb dX0_size_1 rfl ?_
  obtain ⟨v1, ev1, h⟩ := lti_step h
  refine r_lcmp hx hb ev1 dX0_size_2 ?_
  refine lv_if_ge (tgt := 11) hx hb dX0_size_3 (by decide) (fun c2 => ?_) (fun c2 => ?_)
  · have h := it_pos h c2
    refine lv_lload_n hx hb dX0_size_11 rfl (lv_at hl 0 rfl) ?_
    obtain rfl := Option.some.inj h
    rw [eQ]
    exact p_lret hx hb hr hlk dX0_size_12 rfl
  · have h := it_neg h c2
    refine lv_lload_n hx hb dX0_size_6 rfl (lv_at hl 0 rfl) ?_
    obtain ⟨v3, ev3, h⟩ := ltl_step h
    refine r_lneg hx hb ev3 dX0_size_7 ?_
    refine lv_goto (tgt := 12) hx hb dX0_size_8 (by decide) ?_
    obtain rfl := Option.some.inj h
    rw [eQ]
    exact p_lret hx hb hr hlk dX0_size_12 rfl

abbrev R_X0_isNear : Room := { frames := 0, cells := 0, slots := 0, locals := 0 }
noncomputable def f_X0_isNear (x0 : Int64) (x1 : Int64) (x2 : Int64) : Option (Bool) :=
  ltl ((x0 - x1 : Int64)) fun v1 =>
  lti (lg_cmp v1 x2) fun v2 =>
  (if 0 < v2 then
    some false
  else
    ltl ((x1 - x0 : Int64)) fun v4 =>
    lti (lg_cmp v4 x2) fun v5 =>
    (if 0 < v5 then
      some false
    else
      some true
    )
  )
theorem hd_X0_isNear : Hd yX0_isNear 3 := by unfold Hd; decide +kernel
set_option maxHeartbeats 4000000 in
set_option maxRecDepth 100000 in
theorem m_X0_isNear {l : Launch} {D : DD}   (x0 : Int64) (x1 : Int64) (x2 : Int64) (r : Bool) (h : f_X0_isNear x0 x1 x2 = some r) : MP l D yX0_isNear cX0_isNear 6 (some .boolean) 0 0 [.long x0, .long x1, .long x2] NoPre (some (.int (bI r))) := by
  refine MP.start (by decide +kernel) (Nat.le_of_ble_eq_true rfl) ?_
  intro p e s m below meth c ls hC hS hp hl
  obtain ⟨hx, hb, hr, hlk, hml, hown, hts, hnm⟩ := id hC
  have hl : lv_has ls 6 [(0, .long x0), (2, .long x1), (4, .long x2)] := hl
  unfold f_X0_isNear at h
  have hS0 := hS
  obtain ⟨A, eA⟩ : ∃ A : Array Value, A = [.long x0, .long x1, .long x2].toArray := ⟨_, rfl⟩
  rw [← eA] at hC hts ⊢
  obtain ⟨Q, eQ⟩ : ∃ Q : State → Prop, Q = MQ below (PQ (some (.int (bI r)))) A s 0 0 (fun _ => False) := ⟨_, rfl⟩
  show W p l e R_X0_isNear s m A below meth c s.heap [] 0 0 _ _
  rw [← eQ]
  refine lv_lload_n hx hb dX0_isNear_0 rfl (lv_at hl 0 rfl) ?_
  refine lv_lload_n hx hb dX0_isNear_1 rfl (lv_at hl 1 rfl) ?_
  obtain ⟨v1, ev1, h⟩ := ltl_step h
  refine r_lsub hx hb ev1 dX0_isNear_2 ?_
  refine lv_lload hx hb dX0_isNear_3 (lv_at hl 2 rfl) ?_
  obtain ⟨v2, ev2, h⟩ := lti_step h
  refine r_lcmp hx hb ev2 dX0_isNear_5 ?_
  refine lv_if_gt (tgt := 22) hx hb dX0_isNear_6 (by decide) (fun c3 => ?_) (fun c3 => ?_)
  · have h := it_pos h c3
    refine lv_iconst (v := 0) hx hb dX0_isNear_22 (by decide) ?_
    obtain rfl := Option.some.inj h
    rw [eQ]
    exact p_zret hx hb hr hlk (by decide) dX0_isNear_23 rfl
  · have h := it_neg h c3
    refine lv_lload_n hx hb dX0_isNear_9 rfl (lv_at hl 1 rfl) ?_
    refine lv_lload_n hx hb dX0_isNear_10 rfl (lv_at hl 0 rfl) ?_
    obtain ⟨v4, ev4, h⟩ := ltl_step h
    refine r_lsub hx hb ev4 dX0_isNear_11 ?_
    refine lv_lload hx hb dX0_isNear_12 (lv_at hl 2 rfl) ?_
    obtain ⟨v5, ev5, h⟩ := lti_step h
    refine r_lcmp hx hb ev5 dX0_isNear_14 ?_
    refine lv_if_gt (tgt := 22) hx hb dX0_isNear_15 (by decide) (fun c6 => ?_) (fun c6 => ?_)
    · have h := it_pos h c6
      refine lv_iconst (v := 0) hx hb dX0_isNear_22 (by decide) ?_
      obtain rfl := Option.some.inj h
      rw [eQ]
      exact p_zret hx hb hr hlk (by decide) dX0_isNear_23 rfl
    · have h := it_neg h c6
      refine lv_iconst (v := 1) hx hb dX0_isNear_18 (by decide) ?_
      refine lv_goto (tgt := 23) hx hb dX0_isNear_19 (by decide) ?_
      obtain rfl := Option.some.inj h
      rw [eQ]
      exact p_zret hx hb hr hlk (by decide) dX0_isNear_23 rfl

abbrev R_X0_areRows : Room := { frames := 13, cells := 7856, slots := 79615, locals := 1516 }
noncomputable def f_X0_areRows (x0r0r0c : Nat → UInt64) (x0r0r1c : Nat → UInt64) (x0r0r2c : Nat → Int32) (x0r0f3 : Int32) (x0r0f4 : Int32) (x0r0f5 : Int32) (x0r0f6 : Int32) (x1 : Int32) (x2 : Int32) : Option (Bool × Int32 × Int32 × (Nat → UInt64) × (Nat → UInt64) × (Nat → Int32)) :=
  Option.bind (f_X0_some x1 3) fun o1 =>
  lti (x1 >>> (2 &&& 31)) fun v2 =>
  Option.bind (f_X0_some v2 16) fun o3 =>
  lti (1 + o3) fun v4 =>
  lti (x1 &&& 64) fun v5 =>
  lt (fun (v6 : Int32) =>
  lti (x2 >>> (9 &&& 31)) fun v8 =>
  Option.bind (f_X0_some v8 v4) fun o9 =>
  lti (v6 + o9) fun v10 =>
  Option.bind (f_X1_eighths x0r0r0c x0r0r1c x0r0r2c x0r0f3 x0r0f4 x0r0f5 x0r0f6 0 v10) fun o11 =>
  Option.bind (f_X0_answer o11.2.2.1 x0r0r1c o11.2.2.2 o11.2.1 x0r0f4 x0r0f5 x0r0f6 o1 0 7) fun o12 =>
  lti (x1 &&& 128) fun v13 =>
  lt (fun (f14 : Nat → UInt64) (v15 : Int32) =>
  lt (fun (f17 : Nat → UInt64) (f18 : Nat → UInt64) (f19 : Nat → Int32) (v20 : Int32) (v21 : Int32) (v22 : Int32) (v23 : Int32) (v24 : Int32) (v25 : Bool) (v26 : Int32) =>
  (show Option (Sum ((Nat → UInt64) × (Nat → UInt64) × (Nat → Int32) × Int32 × Int32 × Int32 × Int32 × Int32 × Bool × Int32) ((Nat → UInt64) × (Nat → UInt64) × (Nat → Int32) × Int32 × Int32 × Int32 × Int32 × Int32)) from (
  (if v4 ≤ v26 then
    some (.inr (f17, f18, f19, v20, v21, v22, v23, v24))
  else
    lti (v6 + v26) fun v108 =>
    Option.bind (f_X1_eighths f17 f18 f19 v20 v21 x0r0f5 x0r0f6 1 v108) fun o109 =>
    Option.bind (f_X0_answer o109.2.2.1 f18 o109.2.2.2 o109.2.1 v21 x0r0f5 x0r0f6 o1 1 1) fun o110 =>
    lt (fun (f111 : Nat → UInt64) (v112 : Int32) (v113 : Int32) =>
    Option.bind (f_X1_upper o109.2.2.1 f111 o109.2.2.2 o109.2.1 v112 x0r0f5 x0r0f6 1) fun o115 =>
    lt (fun (v116 : Bool) =>
    lt (fun (v118 : Bool) =>
    lti (v23 + (bI v118)) fun v120 =>
    Option.bind (f_X1_heightOrder o109.2.2.1 f111 o109.2.2.2 o109.2.1 v112 x0r0f5 x0r0f6 1 7 1) fun o121 =>
    lt (fun (v122 : Bool) =>
    lti (v24 + (bI v122)) fun v124 =>
    lti (v26 + 1) fun v125 =>
    some (.inl (o109.2.2.1, f111, o109.2.2.2, o109.2.1, v112, v113, v120, v124, v116, v125))
    ) fun K123 =>
    (if 0 ≤ o121 then
      K123 false
    else
      K123 true
    )
    ) fun K119 =>
    lt (fun (_u : Unit) =>
    K119 false
    ) fun K127 =>
    (if v26 ≤ 0 then
      K127 ()
    else
      (if (bI v116) = (bI v25) then
        K127 ()
      else
        K119 true
      )
    )
    ) fun K117 =>
    (if 0 ≤ o115 then
      K117 false
    else
      K117 true
    )
    ) fun K114 =>
    lt (fun (_u : Unit) =>
    Option.bind (f_X1_heightMax o109.2.2.1 o110.2.2 o109.2.2.2 o109.2.1 o110.2.1 x0r0f5 x0r0f6 1 1 0) fun o132 =>
    lti (v6 + v26) fun v133 =>
    K114 o132.2.2 o132.2.1 v133
    ) fun K131 =>
    (if v26 = 0 then
      K131 ()
    else
      Option.bind (f_X1_heightOrder o109.2.2.1 o110.2.2 o109.2.2.2 o109.2.1 o110.2.1 x0r0f5 x0r0f6 1 0 0) fun o135 =>
      (if o135 ≤ 0 then
        K114 o110.2.2 o110.2.1 v22
      else
        K131 ()
      )
    )
  )
  ))
  ) fun F104 =>
  Option.bind (lp 17 (fun x => F104 x.1 x.2.1 x.2.2.1 x.2.2.2.1 x.2.2.2.2.1 x.2.2.2.2.2.1 x.2.2.2.2.2.2.1 x.2.2.2.2.2.2.2.1 x.2.2.2.2.2.2.2.2.1 x.2.2.2.2.2.2.2.2.2) (o11.2.2.1, f14, o11.2.2.2, o11.2.1, v15, v6, 0, 0, false, 0)) fun w105 =>
  Option.bind (f_X1_peak w105.1 w105.2.1 w105.2.2.1 w105.2.2.2.1 w105.2.2.2.2.1 x0r0f5 x0r0f6 o1 v6 v4) fun o138 =>
  (if o138 = w105.2.2.2.2.2.1 then
    Option.bind (f_X1_crossings w105.1 w105.2.1 w105.2.2.1 w105.2.2.2.1 w105.2.2.2.2.1 x0r0f5 x0r0f6 o1 v6 v4) fun o140 =>
    (if o140 = w105.2.2.2.2.2.2.1 then
      Option.bind (f_X1_ahead w105.1 w105.2.1 w105.2.2.1 w105.2.2.2.1 w105.2.2.2.2.1 x0r0f5 x0r0f6 o1 v6 v4 7) fun o142 =>
      (if o142 = w105.2.2.2.2.2.2.2 then
        some (true, w105.2.2.2.1, w105.2.2.2.2.1, w105.1, w105.2.1, w105.2.2.1)
      else
        some (false, w105.2.2.2.1, w105.2.2.2.2.1, w105.1, w105.2.1, w105.2.2.1)
      )
    else
      some (false, w105.2.2.2.1, w105.2.2.2.2.1, w105.1, w105.2.1, w105.2.2.1)
    )
  else
    some (false, w105.2.2.2.1, w105.2.2.2.2.1, w105.1, w105.2.1, w105.2.2.1)
  )
  ) fun K16 =>
  (if v13 = 0 then
    K16 o12.2.2 o12.2.1
  else
    Option.bind (f_X1_flip o11.2.2.1 o12.2.2 o11.2.2.2 o11.2.1 o12.2.1 x0r0f5 x0r0f6 7) fun o145 =>
    K16 o145.2.2 o145.2.1
  )
  ) fun K7 =>
  (if v5 = 0 then
    Option.bind (f_X0_some x2 400) fun o150 =>
    lti (o150 - 200) fun v151 =>
    K7 v151
  else
    lti (65538 - v4) fun v147 =>
    Option.bind (f_X0_some x2 v147) fun o148 =>
    lti (o148 - 32768) fun v149 =>
    K7 v149
  )
theorem hd_X0_areRows : Hd yX0_areRows 2 := by unfold Hd; decide +kernel
set_option maxHeartbeats 4000000 in
set_option maxRecDepth 100000 in
theorem m_X0_areRows {l : Launch} {D : DD} (x0 : Nat) (x0r0 : Nat) (x0r0r0 : Nat) (x0r0r1 : Nat) (x0r0r2 : Nat)  (x0r0r0c : Nat → UInt64) (x0r0r1c : Nat → UInt64) (x0r0r2c : Nat → Int32) (x0r0f3 : Int32) (x0r0f4 : Int32) (x0r0f5 : Int32) (x0r0f6 : Int32) (x1 : Int32) (x2 : Int32) (r : Bool × Int32 × Int32 × (Nat → UInt64) × (Nat → UInt64) × (Nat → Int32)) (h : f_X0_areRows x0r0r0c x0r0r1c x0r0r2c x0r0f3 x0r0f4 x0r0f5 x0r0f6 x1 x2 = some r) : MT l D yX0_areRows cX0_areRows 13 (some .boolean) 13 1516 7856 79615 [.ref x0, .int x1, .int x2] (fun H => OA D 1 x0 [.ref x0r0] H ∧ ON D 0 x0r0 [.ref x0r0r0, .ref x0r0r1, .ref x0r0r2, .int x0r0f3, .int x0r0f4, .int x0r0f5, .int x0r0f6] H ∧ dB D ≤ x0r0 ∧ aD D x0r0r0 8 x0r0r0c H ∧ dB D ≤ x0r0r0 ∧ aD D x0r0r1 8 x0r0r1c H ∧ dB D ≤ x0r0r1 ∧ aZ D x0r0r2 8 x0r0r2c H ∧ dB D ≤ x0r0r2 ∧ x0 ≠ x0r0 ∧ x0 ≠ x0r0r0 ∧ x0 ≠ x0r0r1 ∧ x0 ≠ x0r0r2 ∧ x0r0 ≠ x0r0r0 ∧ x0r0 ≠ x0r0r1 ∧ x0r0 ≠ x0r0r2 ∧ x0r0r0 ≠ x0r0r1 ∧ x0r0r0 ≠ x0r0r2 ∧ x0r0r1 ≠ x0r0r2) (pZ (fun H b H' => b = r.1 ∧ ON D 0 x0r0 [.ref x0r0r0, .ref x0r0r1, .ref x0r0r2, .int r.2.1, .int r.2.2.1, .int x0r0f5, .int x0r0f6] H' ∧ aD D x0r0r0 8 r.2.2.2.1 H' ∧ aD D x0r0r1 8 r.2.2.2.2.1 H' ∧ aZ D x0r0r2 8 r.2.2.2.2.2 H' ∧ Off (fun a => a = x0r0 ∨ a = x0r0r0 ∨ a = x0r0r1 ∨ a = x0r0r2) H H')) := by
  refine MT.start (by decide +kernel) (Nat.le_of_ble_eq_true rfl) ?_
  intro p e s m below meth c ls hC hS hp hl
  obtain ⟨h_x0, h_x0r0, hB_h_x0r0, h_x0r0r0, hB_h_x0r0r0, h_x0r0r1, hB_h_x0r0r1, h_x0r0r2, hB_h_x0r0r2, ne_x0_x0r0, ne_x0_x0r0r0, ne_x0_x0r0r1, ne_x0_x0r0r2, ne_x0r0_x0r0r0, ne_x0r0_x0r0r1, ne_x0r0_x0r0r2, ne_x0r0r0_x0r0r1, ne_x0r0r0_x0r0r2, ne_x0r0r1_x0r0r2⟩ := hp
  obtain ⟨hx, hb, hr, hlk, hml, hown, hts, hnm⟩ := id hC
  have hl : lv_has ls 13 [(0, .ref x0), (1, .int x1), (2, .int x2)] := hl
  unfold f_X0_areRows at h
  have hS0 := hS
  obtain ⟨A, eA⟩ : ∃ A : Array Value, A = [.ref x0, .int x1, .int x2].toArray := ⟨_, rfl⟩
  rw [← eA] at hC hts ⊢
  obtain ⟨Q, eQ⟩ : ∃ Q : State → Prop, Q = MQ below (TQ D (pZ (fun H b H' => b = r.1 ∧ ON D 0 x0r0 [.ref x0r0r0, .ref x0r0r1, .ref x0r0r2, .int r.2.1, .int r.2.2.1, .int x0r0f5, .int x0r0f6] H' ∧ aD D x0r0r0 8 r.2.2.2.1 H' ∧ aD D x0r0r1 8 r.2.2.2.2.1 H' ∧ aZ D x0r0r2 8 r.2.2.2.2.2 H' ∧ Off (fun a => a = x0r0 ∨ a = x0r0r0 ∨ a = x0r0r1 ∨ a = x0r0r2) H H'))) A s 7856 79615 (fun q => dB D ≤ q) := ⟨_, rfl⟩
  have hF : Off (fun a => a = x0r0 ∨ a = x0r0r0 ∨ a = x0r0r1 ∨ a = x0r0r2) s.heap s.heap := Off.rf
  show W p l e R_X0_areRows s m A below meth c s.heap [] 0 0 _ _
  rw [← eQ]
  obtain ⟨H, eH⟩ : ∃ H : Heap, H = s.heap := ⟨_, rfl⟩
  obtain ⟨locs, eLc⟩ : ∃ L : List Loc, L = [] := ⟨_, rfl⟩
  have lt_h_x0 := h_x0.lt
  have lt_h_x0r0 := h_x0r0.lt
  have lt_h_x0r0r0 := h_x0r0r0.lt
  have lt_h_x0r0r1 := h_x0r0r1.lt
  have lt_h_x0r0r2 := h_x0r0r2.lt
  rw [← eH, ← eLc]
  have hF : Off (fun a => a = x0r0 ∨ a = x0r0r0 ∨ a = x0r0r1 ∨ a = x0r0r2) s.heap H := by rw [eH]; exact hF
  rw [← eH] at h_x0
  rw [← eH] at h_x0r0
  rw [← eH] at h_x0r0r0
  rw [← eH] at h_x0r0r1
  rw [← eH] at h_x0r0r2
  have hS : St D s H locs := by rw [eH, eLc]; exact hS
  refine lv_iload_n hx hb dX0_areRows_0 rfl (lv_at hl 1 rfl) ?_
  refine lv_iconst (v := 3) hx hb dX0_areRows_1 (by decide) ?_
  obtain ⟨o1, eo1, h⟩ := bind_step h
  refine r_cp (r_runS (rest := []) (As := [.int x1, .int 3]) hC 2 (m_X0_some   x1 3 o1 eo1) q1244 q1245 q39 q1246 hd_X0_some rfl ⟨Nat.le_of_ble_eq_true rfl, Nat.le_of_ble_eq_true rfl⟩ hS trivial hl.1 rfl (Nat.le_of_ble_eq_true rfl) dX0_areRows_2 ⟨Nat.le_of_ble_eq_true rfl, Nat.le_of_ble_eq_true rfl⟩) ?_
  refine lv_istore_n (lv' := [(3, .int o1), (0, .ref x0), (1, .int x1), (2, .int x2)]) hx hb dX0_areRows_5 rfl hl (by decide) rfl (fun ls hl => ?_)
  refine lv_iconst (v := 1) hx hb dX0_areRows_6 (by decide) ?_
  refine lv_iload_n hx hb dX0_areRows_7 rfl (lv_at hl 2 rfl) ?_
  refine lv_iconst (v := 2) hx hb dX0_areRows_8 (by decide) ?_
  obtain ⟨v2, ev2, h⟩ := lti_step h
  refine r_ishr hx hb ev2 dX0_areRows_9 ?_
  refine lv_bipush (v := 16) hx hb dX0_areRows_10 (by decide) ?_
  obtain ⟨o3, eo3, h⟩ := bind_step h
  refine r_cp (r_runS (rest := [.int 1]) (As := [.int v2, .int 16]) hC 2 (m_X0_some   v2 16 o3 eo3) q1244 q1245 q39 q1246 hd_X0_some rfl ⟨Nat.le_of_ble_eq_true rfl, Nat.le_of_ble_eq_true rfl⟩ hS trivial hl.1 rfl (Nat.le_of_ble_eq_true rfl) dX0_areRows_12 ⟨Nat.le_of_ble_eq_true rfl, Nat.le_of_ble_eq_true rfl⟩) ?_
  obtain ⟨v4, ev4, h⟩ := lti_step h
  refine r_iadd hx hb ev4 dX0_areRows_15 ?_
  refine lv_istore (lv' := [(4, .int v4), (3, .int o1), (0, .ref x0), (1, .int x1), (2, .int x2)]) hx hb dX0_areRows_16 hl (by decide) rfl (fun ls hl => ?_)
  refine lv_iload_n hx hb dX0_areRows_18 rfl (lv_at hl 3 rfl) ?_
  refine lv_bipush (v := 64) hx hb dX0_areRows_19 (by decide) ?_
  obtain ⟨v5, ev5, h⟩ := lti_step h
  refine r_iand hx hb ev5 dX0_areRows_21 ?_
  obtain ⟨K7, eK7, h⟩ := lt_step h
  have HK7 : ∀ (v6 : Int32) (h : K7 v6 = some r) (H : Heap) (locs : List Loc) (hS : St D s H locs) (hF : Off (fun a => a = x0r0 ∨ a = x0r0r0 ∨ a = x0r0r1 ∨ a = x0r0r2) s.heap H) (h_x0 : OA D 1 x0 [.ref x0r0] H) (h_x0r0 : ON D 0 x0r0 [.ref x0r0r0, .ref x0r0r1, .ref x0r0r2, .int x0r0f3, .int x0r0f4, .int x0r0f5, .int x0r0f6] H) (h_x0r0r0 : aD D x0r0r0 8 x0r0r0c H) (h_x0r0r1 : aD D x0r0r1 8 x0r0r1c H) (h_x0r0r2 : aZ D x0r0r2 8 x0r0r2c H) (ls : Array Slot) (hl : lv_has ls 13 [(0, .ref x0), (1, .int x1), (2, .int x2), (3, .int o1), (4, .int v4)]), W p l e R_X0_areRows s m A below meth c H locs 0 0 Q (F0 m 51 ls [.int v6]) := by
    intro v6 h H locs hS hF h_x0 h_x0r0 h_x0r0r0 h_x0r0r1 h_x0r0r2 ls hl
    subst eK7
    refine lv_istore (lv' := [(5, .int v6), (0, .ref x0), (1, .int x1), (2, .int x2), (3, .int o1), (4, .int v4)]) hx hb dX0_areRows_51 hl (by decide) rfl (fun ls hl => ?_)
    refine lv_iload hx hb dX0_areRows_53 (lv_at hl 0 rfl) ?_
    refine lv_istore (lv' := [(6, .int v6), (5, .int v6), (0, .ref x0), (1, .int x1), (2, .int x2), (3, .int o1), (4, .int v4)]) hx hb dX0_areRows_55 hl (by decide) rfl (fun ls hl => ?_)
    refine lv_iconst (v := 0) hx hb dX0_areRows_57 (by decide) ?_
    refine lv_istore (lv' := [(7, .int 0), (6, .int v6), (5, .int v6), (0, .ref x0), (1, .int x1), (2, .int x2), (3, .int o1), (4, .int v4)]) hx hb dX0_areRows_58 hl (by decide) rfl (fun ls hl => ?_)
    refine lv_iconst (v := 0) hx hb dX0_areRows_60 (by decide) ?_
    refine lv_istore (lv' := [(8, .int 0), (7, .int 0), (6, .int v6), (5, .int v6), (0, .ref x0), (1, .int x1), (2, .int x2), (3, .int o1), (4, .int v4)]) hx hb dX0_areRows_61 hl (by decide) rfl (fun ls hl => ?_)
    refine lv_iconst (v := 0) hx hb dX0_areRows_63 (by decide) ?_
    refine lv_istore (lv' := [(9, .int 0), (8, .int 0), (7, .int 0), (6, .int v6), (5, .int v6), (0, .ref x0), (1, .int x1), (2, .int x2), (3, .int o1), (4, .int v4)]) hx hb dX0_areRows_64 hl (by decide) rfl (fun ls hl => ?_)
    refine lv_aload_n hx hb dX0_areRows_66 rfl (lv_at hl 5 rfl) ?_
    refine r_get hx hb hts hown hS h_x0 rfl in_X0 0 (by decide) q936 rfl (v := .ref x0r0) rfl dX0_areRows_67 ?_
    refine lv_iconst (v := 0) hx hb dX0_areRows_70 (by decide) ?_
    refine lv_iload hx hb dX0_areRows_71 (lv_at hl 4 rfl) ?_
    refine lv_iload_n hx hb dX0_areRows_73 rfl (lv_at hl 7 rfl) ?_
    refine lv_bipush (v := 9) hx hb dX0_areRows_74 (by decide) ?_
    obtain ⟨v8, ev8, h⟩ := lti_step h
    refine r_ishr hx hb ev8 dX0_areRows_76 ?_
    refine lv_iload hx hb dX0_areRows_77 (lv_at hl 9 rfl) ?_
    obtain ⟨o9, eo9, h⟩ := bind_step h
    refine r_cp (r_runS (rest := [.int v6, .int 0, .ref x0r0]) (As := [.int v8, .int v4]) hC 2 (m_X0_some   v8 v4 o9 eo9) q1244 q1245 q39 q1246 hd_X0_some rfl ⟨Nat.le_of_ble_eq_true rfl, Nat.le_of_ble_eq_true rfl⟩ hS trivial hl.1 rfl (Nat.le_of_ble_eq_true rfl) dX0_areRows_79 ⟨Nat.le_of_ble_eq_true rfl, Nat.le_of_ble_eq_true rfl⟩) ?_
    obtain ⟨v10, ev10, h⟩ := lti_step h
    refine r_iadd hx hb ev10 dX0_areRows_82 ?_
    obtain ⟨o11, eo11, h⟩ := bind_step h
    refine r_ci (r_runV (rest := []) (As := [.int 0, .int v10]) hC 2 (m_X1_eighths x0r0 x0r0r0 x0r0r1 x0r0r2  x0r0r0c x0r0r1c x0r0r2c x0r0f3 x0r0f4 x0r0f5 x0r0f6 0 v10 o11 eo11) q1348 q1349 q1350 q46 q1351 (OA.recv hS h_x0r0.OA (C := RX1) rfl) hd_X1_eighths rfl ⟨Nat.le_of_ble_eq_true rfl, Nat.le_of_ble_eq_true rfl⟩ hS ⟨h_x0r0, hB_h_x0r0, h_x0r0r0, hB_h_x0r0r0, h_x0r0r1, h_x0r0r2, hB_h_x0r0r2, ne_x0r0_x0r0r0, ne_x0r0_x0r0r1, ne_x0r0_x0r0r2, ne_x0r0r0_x0r0r1, ne_x0r0r0_x0r0r2, ne_x0r0r1_x0r0r2⟩ hl.1 rfl (Nat.le_of_ble_eq_true rfl) dX0_areRows_83 ⟨Nat.le_of_ble_eq_true rfl, Nat.le_of_ble_eq_true rfl⟩) hS (fun b H locs hp hS hz => ?_)
    obtain ⟨rfl, h_x0r0, h_x0r0r0, h_x0r0r2, hO⟩ := hp
    have h_x0 := h_x0.off hO (fun z => by rcases z with z | z | z <;> first | exact ne_x0_x0r0 z | exact ne_x0_x0r0r0 z | exact ne_x0_x0r0r2 z)
    have h_x0r0r1 := h_x0r0r1.off hO (fun z => by rcases z with z | z | z <;> first | exact (Ne.symm ne_x0r0_x0r0r1) z | exact (Ne.symm ne_x0r0r0_x0r0r1) z | exact ne_x0r0r1_x0r0r2 z)
    have hF := hF.fresh hO (fun a ha z => by
      rcases z with z | z | z
      · exact Or.inl z
      · exact Or.inr (Or.inl z)
      · exact Or.inr (Or.inr (Or.inr (z))))
    refine lv_pop hx hb dX0_areRows_86 rfl ?_
    refine lv_aload_n hx hb dX0_areRows_87 rfl (lv_at hl 5 rfl) ?_
    refine lv_iload_n hx hb dX0_areRows_88 rfl (lv_at hl 8 rfl) ?_
    refine lv_iconst (v := 0) hx hb dX0_areRows_89 (by decide) ?_
    refine lv_bipush (v := 7) hx hb dX0_areRows_90 (by decide) ?_
    obtain ⟨o12, eo12, h⟩ := bind_step h
    refine r_cl (r_runV (rest := []) (As := [.int o1, .int 0, .int 7]) hC 3 (m_X0_answer x0 x0r0 x0r0r0 x0r0r1 x0r0r2  o11.2.2.1 x0r0r1c o11.2.2.2 o11.2.1 x0r0f4 x0r0f5 x0r0f6 o1 0 7 o12 eo12) q1415 q1417 qs27 q39 q1418 (OA.recv hS h_x0 (C := RX0) rfl) hd_X0_answer rfl ⟨Nat.le_of_ble_eq_true rfl, Nat.le_of_ble_eq_true rfl⟩ hS ⟨h_x0, h_x0r0, hB_h_x0r0, h_x0r0r0, h_x0r0r1, hB_h_x0r0r1, h_x0r0r2, ne_x0_x0r0, ne_x0_x0r0r1, ne_x0r0_x0r0r0, ne_x0r0_x0r0r1, ne_x0r0_x0r0r2, ne_x0r0r0_x0r0r1, ne_x0r0r1_x0r0r2⟩ hl.1 rfl (Nat.le_of_ble_eq_true rfl) dX0_areRows_92 ⟨Nat.le_of_ble_eq_true rfl, Nat.le_of_ble_eq_true rfl⟩) hS (fun b H locs hp hS hz => ?_)
    obtain ⟨rfl, h_x0r0, h_x0r0r1, hO⟩ := hp
    have h_x0 := h_x0.off hO (fun z => by rcases z with z | z <;> first | exact ne_x0_x0r0 z | exact ne_x0_x0r0r1 z)
    have h_x0r0r0 := h_x0r0r0.off hO (fun z => by rcases z with z | z <;> first | exact (Ne.symm ne_x0r0_x0r0r0) z | exact ne_x0r0r0_x0r0r1 z)
    have h_x0r0r2 := h_x0r0r2.off hO (fun z => by rcases z with z | z <;> first | exact (Ne.symm ne_x0r0_x0r0r2) z | exact (Ne.symm ne_x0r0r1_x0r0r2) z)
    have hF := hF.fresh hO (fun a ha z => by
      rcases z with z | z
      · exact Or.inl z
      · exact Or.inr (Or.inr (Or.inl z)))
    refine lv_pop2_2 hx hb dX0_areRows_95 rfl ?_
    refine lv_iload_n hx hb dX0_areRows_96 rfl (lv_at hl 6 rfl) ?_
    refine lv_sipush (v := 128) hx hb dX0_areRows_97 (by decide) ?_
    obtain ⟨v13, ev13, h⟩ := lti_step h
    refine r_iand hx hb ev13 dX0_areRows_100 ?_
    obtain ⟨K16, eK16, h⟩ := lt_step h
    have HK16 : ∀ (f14 : Nat → UInt64) (v15 : Int32) (h : K16 f14 v15 = some r) (H : Heap) (locs : List Loc) (hS : St D s H locs) (hF : Off (fun a => a = x0r0 ∨ a = x0r0r0 ∨ a = x0r0r1 ∨ a = x0r0r2) s.heap H) (h_x0 : OA D 1 x0 [.ref x0r0] H) (h_x0r0 : ON D 0 x0r0 [.ref x0r0r0, .ref x0r0r1, .ref x0r0r2, .int o11.2.1, .int v15, .int x0r0f5, .int x0r0f6] H) (h_x0r0r0 : aD D x0r0r0 8 o11.2.2.1 H) (h_x0r0r1 : aD D x0r0r1 8 f14 H) (h_x0r0r2 : aZ D x0r0r2 8 o11.2.2.2 H) (ls : Array Slot) (hl : lv_has ls 13 [(0, .ref x0), (3, .int o1), (4, .int v4), (5, .int v6), (6, .int v6), (7, .int 0), (8, .int 0), (9, .int 0)]), W p l e R_X0_areRows s m A below meth c H locs 415 4169 Q (F0 m 114 ls []) := by
      intro f14 v15 h H locs hS hF h_x0 h_x0r0 h_x0r0r0 h_x0r0r1 h_x0r0r2 ls hl
      subst eK16
      refine lv_iconst (v := 1) hx hb dX0_areRows_114 (by decide) ?_
      refine lv_istore (lv' := [(10, .int 1), (0, .ref x0), (3, .int o1), (4, .int v4), (5, .int v6), (6, .int v6), (7, .int 0), (8, .int 0), (9, .int 0)]) hx hb dX0_areRows_115 hl (by decide) rfl (fun ls hl => ?_)
      refine lv_iconst (v := 0) hx hb dX0_areRows_117 (by decide) ?_
      refine lv_istore (lv' := [(11, .int 0), (10, .int 1), (0, .ref x0), (3, .int o1), (4, .int v4), (5, .int v6), (6, .int v6), (7, .int 0), (8, .int 0), (9, .int 0)]) hx hb dX0_areRows_118 hl (by decide) rfl (fun ls hl => ?_)
      obtain ⟨F104, eF104, h⟩ := lt_step h
      obtain ⟨w105, ew105, h⟩ := bind_step h
      obtain ⟨CE, eCE⟩ : ∃ x : Nat, x = 415 + 7123 := ⟨_, rfl⟩
      obtain ⟨SE, eSE⟩ : ∃ x : Nat, x = 4169 + 70941 := ⟨_, rfl⟩
      have hCE : CE ≤ R_X0_areRows.cells := (by rw [eCE]; exact Nat.le_of_ble_eq_true rfl)
      have hSE : SE ≤ R_X0_areRows.slots := (by rw [eSE]; exact Nat.le_of_ble_eq_true rfl)
      have HL : ∀ (n : Nat) (f17 : Nat → UInt64) (f18 : Nat → UInt64) (f19 : Nat → Int32) (v20 : Int32) (v21 : Int32) (v22 : Int32) (v23 : Int32) (v24 : Int32) (v25 : Bool) (v26 : Int32) (w105 : (Nat → UInt64) × (Nat → UInt64) × (Nat → Int32) × Int32 × Int32 × Int32 × Int32 × Int32) (hk0 : lp n (fun x => F104 x.1 x.2.1 x.2.2.1 x.2.2.2.1 x.2.2.2.2.1 x.2.2.2.2.2.1 x.2.2.2.2.2.2.1 x.2.2.2.2.2.2.2.1 x.2.2.2.2.2.2.2.2.1 x.2.2.2.2.2.2.2.2.2) (f17, f18, f19, v20, v21, v22, v23, v24, v25, v26) = some w105) (cl : Nat) (sl : Nat) (hcl : cl + 419 * n ≤ CE) (hsl : sl + 4173 * n ≤ SE) (H : Heap) (locs : List Loc) (hS : St D s H locs) (hF : Off (fun a => a = x0r0 ∨ a = x0r0r0 ∨ a = x0r0r1 ∨ a = x0r0r2) s.heap H) (h_x0 : OA D 1 x0 [.ref x0r0] H) (h_x0r0 : ON D 0 x0r0 [.ref x0r0r0, .ref x0r0r1, .ref x0r0r2, .int v20, .int v21, .int x0r0f5, .int x0r0f6] H) (h_x0r0r0 : aD D x0r0r0 8 f17 H) (h_x0r0r1 : aD D x0r0r1 8 f18 H) (h_x0r0r2 : aZ D x0r0r2 8 f19 H) (ls : Array Slot) (hl : lv_has ls 13 [(0, .ref x0), (3, .int o1), (4, .int v4), (5, .int v6), (6, .int v22), (7, .int v23), (8, .int v24), (9, .int (bI v25)), (10, .int 1), (11, .int v26)]) (K259 : ∀ (H : Heap) (locs : List Loc) (hS : St D s H locs) (hF : Off (fun a => a = x0r0 ∨ a = x0r0r0 ∨ a = x0r0r1 ∨ a = x0r0r2) s.heap H) (h_x0 : OA D 1 x0 [.ref x0r0] H) (h_x0r0 : ON D 0 x0r0 [.ref x0r0r0, .ref x0r0r1, .ref x0r0r2, .int w105.2.2.2.1, .int w105.2.2.2.2.1, .int x0r0f5, .int x0r0f6] H) (h_x0r0r0 : aD D x0r0r0 8 w105.1 H) (h_x0r0r1 : aD D x0r0r1 8 w105.2.1 H) (h_x0r0r2 : aZ D x0r0r2 8 w105.2.2.1 H) (ls : Array Slot) (hl : lv_has ls 13 [(0, .ref x0), (3, .int o1), (4, .int v4), (5, .int v6), (6, .int w105.2.2.2.2.2.1), (7, .int w105.2.2.2.2.2.2.1), (8, .int w105.2.2.2.2.2.2.2), (10, .int 1)]), W p l e R_X0_areRows s m A below meth c H locs CE SE Q (F0 m 259 ls [])), W p l e R_X0_areRows s m A below meth c H locs cl sl Q (F0 m 120 ls []) := by
        intro n
        induction n with
        | zero => intro f17 f18 f19 v20 v21 v22 v23 v24 v25 v26 w105 hk0 cl sl hcl hsl H locs hS hF h_x0 h_x0r0 h_x0r0r0 h_x0r0r1 h_x0r0r2 ls hl K259; exact lp_zero hk0
        | succ n ih =>
          intro f17 f18 f19 v20 v21 v22 v23 v24 v25 v26 w105 hk0 cl sl hcl hsl H locs hS hF h_x0 h_x0r0 h_x0r0r0 h_x0r0r1 h_x0r0r2 ls hl K259
          obtain ⟨z106, hz, hk⟩ := lp_step hk0
          have h := (congrFun (congrFun (congrFun (congrFun (congrFun (congrFun (congrFun (congrFun (congrFun (congrFun (eF104) f17) f18) f19) v20) v21) v22) v23) v24) v25) v26).symm.trans hz
          have hcO : cl + 419 ≤ CE := al_out hcl
          have hcE : cl + 419 ≤ R_X0_areRows.cells := Nat.le_trans hcO hCE
          have hcN : ∀ a, a ≤ 419 → cl + a + 419 * n ≤ CE := fun a ha => al_next hcl ha
          have hcN0 : cl + 419 * n ≤ CE := al_next hcl (Nat.zero_le _)
          have hsO : sl + 4173 ≤ SE := al_out hsl
          have hsE : sl + 4173 ≤ R_X0_areRows.slots := Nat.le_trans hsO hSE
          have hsN : ∀ a, a ≤ 4173 → sl + a + 4173 * n ≤ SE := fun a ha => al_next hsl ha
          have hsN0 : sl + 4173 * n ≤ SE := al_next hsl (Nat.zero_le _)
          clear hcl hsl
          refine lv_iload hx hb dX0_areRows_120 (lv_at hl 9 rfl) ?_
          refine lv_iload hx hb dX0_areRows_122 (lv_at hl 2 rfl) ?_
          refine lv_icmp_ge (tgt := 259) hx hb dX0_areRows_124 (by decide) (fun c107 => ?_) (fun c107 => ?_)
          · have h := it_pos h c107
            obtain rfl := Option.some.inj h
            obtain rfl := id hk
            refine W.widen (k := CE) (n := SE) (by omega) (by omega) ?_
            exact K259 H locs hS hF h_x0 h_x0r0 h_x0r0r0 h_x0r0r1 h_x0r0r2 ls (lv_sub hl [0, 1, 2, 3, 4, 5, 6, 8] rfl)
          · have h := it_neg h c107
            refine lv_aload_n hx hb dX0_areRows_127 rfl (lv_at hl 0 rfl) ?_
            refine r_get hx hb hts hown hS h_x0 rfl in_X0 0 (by decide) q936 rfl (v := .ref x0r0) rfl dX0_areRows_128 ?_
            refine lv_iconst (v := 1) hx hb dX0_areRows_131 (by decide) ?_
            refine lv_iload hx hb dX0_areRows_132 (lv_at hl 3 rfl) ?_
            refine lv_iload hx hb dX0_areRows_134 (lv_at hl 9 rfl) ?_
            obtain ⟨v108, ev108, h⟩ := lti_step h
            refine r_iadd hx hb ev108 dX0_areRows_136 ?_
            obtain ⟨o109, eo109, h⟩ := bind_step h
            refine r_ci (r_runV (rest := []) (As := [.int 1, .int v108]) hC 2 (m_X1_eighths x0r0 x0r0r0 x0r0r1 x0r0r2  f17 f18 f19 v20 v21 x0r0f5 x0r0f6 1 v108 o109 eo109) q1348 q1349 q1350 q46 q1351 (OA.recv hS h_x0r0.OA (C := RX1) rfl) hd_X1_eighths rfl ⟨Nat.le_of_ble_eq_true rfl, Nat.le_of_ble_eq_true rfl⟩ hS ⟨h_x0r0, hB_h_x0r0, h_x0r0r0, hB_h_x0r0r0, h_x0r0r1, h_x0r0r2, hB_h_x0r0r2, ne_x0r0_x0r0r0, ne_x0r0_x0r0r1, ne_x0r0_x0r0r2, ne_x0r0r0_x0r0r1, ne_x0r0r0_x0r0r2, ne_x0r0r1_x0r0r2⟩ hl.1 rfl (Nat.le_of_ble_eq_true rfl) dX0_areRows_137 ⟨by have := hcE; have := hsE; omega, by have := hcE; have := hsE; omega⟩) hS (fun b H locs hp hS hz => ?_)
            obtain ⟨rfl, h_x0r0, h_x0r0r0, h_x0r0r2, hO⟩ := hp
            have h_x0 := h_x0.off hO (fun z => by rcases z with z | z | z <;> first | exact ne_x0_x0r0 z | exact ne_x0_x0r0r0 z | exact ne_x0_x0r0r2 z)
            have h_x0r0r1 := h_x0r0r1.off hO (fun z => by rcases z with z | z | z <;> first | exact (Ne.symm ne_x0r0_x0r0r1) z | exact (Ne.symm ne_x0r0r0_x0r0r1) z | exact ne_x0r0r1_x0r0r2 z)
            have hF := hF.fresh hO (fun a ha z => by
              rcases z with z | z | z
              · exact Or.inl z
              · exact Or.inr (Or.inl z)
              · exact Or.inr (Or.inr (Or.inr (z))))
            refine lv_pop hx hb dX0_areRows_140 rfl ?_
            refine lv_aload_n hx hb dX0_areRows_141 rfl (lv_at hl 0 rfl) ?_
            refine lv_iload_n hx hb dX0_areRows_142 rfl (lv_at hl 1 rfl) ?_
            refine lv_iconst (v := 1) hx hb dX0_areRows_143 (by decide) ?_
            refine lv_iconst (v := 1) hx hb dX0_areRows_144 (by decide) ?_
            obtain ⟨o110, eo110, h⟩ := bind_step h
            refine r_cl (r_runV (rest := []) (As := [.int o1, .int 1, .int 1]) hC 3 (m_X0_answer x0 x0r0 x0r0r0 x0r0r1 x0r0r2  o109.2.2.1 f18 o109.2.2.2 o109.2.1 v21 x0r0f5 x0r0f6 o1 1 1 o110 eo110) q1415 q1417 qs27 q39 q1418 (OA.recv hS h_x0 (C := RX0) rfl) hd_X0_answer rfl ⟨Nat.le_of_ble_eq_true rfl, Nat.le_of_ble_eq_true rfl⟩ hS ⟨h_x0, h_x0r0, hB_h_x0r0, h_x0r0r0, h_x0r0r1, hB_h_x0r0r1, h_x0r0r2, ne_x0_x0r0, ne_x0_x0r0r1, ne_x0r0_x0r0r0, ne_x0r0_x0r0r1, ne_x0r0_x0r0r2, ne_x0r0r0_x0r0r1, ne_x0r0r1_x0r0r2⟩ hl.1 rfl (Nat.le_of_ble_eq_true rfl) dX0_areRows_145 ⟨by have := hcE; have := hsE; omega, by have := hcE; have := hsE; omega⟩) hS (fun b H locs hp hS hz => ?_)
            obtain ⟨rfl, h_x0r0, h_x0r0r1, hO⟩ := hp
            have h_x0 := h_x0.off hO (fun z => by rcases z with z | z <;> first | exact ne_x0_x0r0 z | exact ne_x0_x0r0r1 z)
            have h_x0r0r0 := h_x0r0r0.off hO (fun z => by rcases z with z | z <;> first | exact (Ne.symm ne_x0r0_x0r0r0) z | exact ne_x0r0r0_x0r0r1 z)
            have h_x0r0r2 := h_x0r0r2.off hO (fun z => by rcases z with z | z <;> first | exact (Ne.symm ne_x0r0_x0r0r2) z | exact (Ne.symm ne_x0r0r1_x0r0r2) z)
            have hF := hF.fresh hO (fun a ha z => by
              rcases z with z | z
              · exact Or.inl z
              · exact Or.inr (Or.inr (Or.inl z)))
            refine lv_pop2_2 hx hb dX0_areRows_148 rfl ?_
            refine lv_iload hx hb dX0_areRows_149 (lv_at hl 9 rfl) ?_
            obtain ⟨K114, eK114, h⟩ := lt_step h
            have HK114 : ∀ (f111 : Nat → UInt64) (v112 : Int32) (v113 : Int32) (h : K114 f111 v112 v113 = some z106) (H : Heap) (locs : List Loc) (hS : St D s H locs) (hF : Off (fun a => a = x0r0 ∨ a = x0r0r0 ∨ a = x0r0r1 ∨ a = x0r0r2) s.heap H) (h_x0 : OA D 1 x0 [.ref x0r0] H) (h_x0r0 : ON D 0 x0r0 [.ref x0r0r0, .ref x0r0r1, .ref x0r0r2, .int o109.2.1, .int v112, .int x0r0f5, .int x0r0f6] H) (h_x0r0r0 : aD D x0r0r0 8 o109.2.2.1 H) (h_x0r0r1 : aD D x0r0r1 8 f111 H) (h_x0r0r2 : aZ D x0r0r2 8 o109.2.2.2 H) (ls : Array Slot) (hl : lv_has ls 13 [(0, .ref x0), (3, .int o1), (4, .int v4), (5, .int v6), (6, .int v113), (7, .int v23), (8, .int v24), (9, .int (bI v25)), (10, .int 1), (11, .int v26)]), W p l e R_X0_areRows s m A below meth c H locs (cl + 417) (sl + 4171) Q (F0 m 185 ls []) := by
              intro f111 v112 v113 h H locs hS hF h_x0 h_x0r0 h_x0r0r0 h_x0r0r1 h_x0r0r2 ls hl
              subst eK114
              refine lv_aload_n hx hb dX0_areRows_185 rfl (lv_at hl 0 rfl) ?_
              refine r_get hx hb hts hown hS h_x0 rfl in_X0 0 (by decide) q936 rfl (v := .ref x0r0) rfl dX0_areRows_186 ?_
              refine lv_iconst (v := 1) hx hb dX0_areRows_189 (by decide) ?_
              obtain ⟨o115, eo115, h⟩ := bind_step h
              refine r_cp (r_runV (rest := []) (As := [.int 1]) hC 1 (m_X1_upper x0r0 x0r0r0 x0r0r1 x0r0r2  o109.2.2.1 f111 o109.2.2.2 o109.2.1 v112 x0r0f5 x0r0f6 1 o115 eo115) q1240 q1241 q1242 q46 q1243 (OA.recv hS h_x0r0.OA (C := RX1) rfl) hd_X1_upper rfl ⟨Nat.le_of_ble_eq_true rfl, Nat.le_of_ble_eq_true rfl⟩ hS ⟨h_x0r0, h_x0r0r0, h_x0r0r1, h_x0r0r2⟩ hl.1 rfl (Nat.le_of_ble_eq_true rfl) dX0_areRows_190 ⟨by have := hcE; have := hsE; omega, by have := hcE; have := hsE; omega⟩) ?_
              obtain ⟨K117, eK117, h⟩ := lt_step h
              have HK117 : ∀ (v116 : Bool) (h : K117 v116 = some z106) (H : Heap) (locs : List Loc) (hS : St D s H locs) (hF : Off (fun a => a = x0r0 ∨ a = x0r0r0 ∨ a = x0r0r1 ∨ a = x0r0r2) s.heap H) (h_x0 : OA D 1 x0 [.ref x0r0] H) (h_x0r0 : ON D 0 x0r0 [.ref x0r0r0, .ref x0r0r1, .ref x0r0r2, .int o109.2.1, .int v112, .int x0r0f5, .int x0r0f6] H) (h_x0r0r0 : aD D x0r0r0 8 o109.2.2.1 H) (h_x0r0r1 : aD D x0r0r1 8 f111 H) (h_x0r0r2 : aZ D x0r0r2 8 o109.2.2.2 H) (ls : Array Slot) (hl : lv_has ls 13 [(0, .ref x0), (3, .int o1), (4, .int v4), (5, .int v6), (6, .int v113), (7, .int v23), (8, .int v24), (9, .int (bI v25)), (10, .int 1), (11, .int v26)]), W p l e R_X0_areRows s m A below meth c H locs (cl + 417) (sl + 4171) Q (F0 m 201 ls [.int (bI v116)]) := by
                intro v116 h H locs hS hF h_x0 h_x0r0 h_x0r0r0 h_x0r0r1 h_x0r0r2 ls hl
                subst eK117
                refine lv_istore (lv' := [(12, .int (bI v116)), (0, .ref x0), (3, .int o1), (4, .int v4), (5, .int v6), (6, .int v113), (7, .int v23), (8, .int v24), (9, .int (bI v25)), (10, .int 1), (11, .int v26)]) hx hb dX0_areRows_201 hl (by decide) rfl (fun ls hl => ?_)
                refine lv_iload hx hb dX0_areRows_203 (lv_at hl 6 rfl) ?_
                refine lv_iload hx hb dX0_areRows_205 (lv_at hl 10 rfl) ?_
                obtain ⟨K119, eK119, h⟩ := lt_step h
                have HK119 : ∀ (v118 : Bool) (h : K119 v118 = some z106) (H : Heap) (locs : List Loc) (hS : St D s H locs) (hF : Off (fun a => a = x0r0 ∨ a = x0r0r0 ∨ a = x0r0r1 ∨ a = x0r0r2) s.heap H) (h_x0 : OA D 1 x0 [.ref x0r0] H) (h_x0r0 : ON D 0 x0r0 [.ref x0r0r0, .ref x0r0r1, .ref x0r0r2, .int o109.2.1, .int v112, .int x0r0f5, .int x0r0f6] H) (h_x0r0r0 : aD D x0r0r0 8 o109.2.2.1 H) (h_x0r0r1 : aD D x0r0r1 8 f111 H) (h_x0r0r2 : aZ D x0r0r2 8 o109.2.2.2 H) (ls : Array Slot) (hl : lv_has ls 13 [(0, .ref x0), (3, .int o1), (4, .int v4), (5, .int v6), (6, .int v113), (8, .int v24), (10, .int 1), (11, .int v26), (12, .int (bI v116))]), W p l e R_X0_areRows s m A below meth c H locs (cl + 417) (sl + 4171) Q (F0 m 222 ls [.int (bI v118), .int v23]) := by
                  intro v118 h H locs hS hF h_x0 h_x0r0 h_x0r0r0 h_x0r0r1 h_x0r0r2 ls hl
                  subst eK119
                  obtain ⟨v120, ev120, h⟩ := lti_step h
                  refine r_iadd hx hb ev120 dX0_areRows_222 ?_
                  refine lv_istore (lv' := [(7, .int v120), (0, .ref x0), (3, .int o1), (4, .int v4), (5, .int v6), (6, .int v113), (8, .int v24), (10, .int 1), (11, .int v26), (12, .int (bI v116))]) hx hb dX0_areRows_223 hl (by decide) rfl (fun ls hl => ?_)
                  refine lv_iload hx hb dX0_areRows_225 (lv_at hl 6 rfl) ?_
                  refine lv_aload_n hx hb dX0_areRows_227 rfl (lv_at hl 1 rfl) ?_
                  refine r_get hx hb hts hown hS h_x0 rfl in_X0 0 (by decide) q936 rfl (v := .ref x0r0) rfl dX0_areRows_228 ?_
                  refine lv_iconst (v := 1) hx hb dX0_areRows_231 (by decide) ?_
                  refine lv_bipush (v := 7) hx hb dX0_areRows_232 (by decide) ?_
                  refine lv_iconst (v := 1) hx hb dX0_areRows_234 (by decide) ?_
                  obtain ⟨o121, eo121, h⟩ := bind_step h
                  refine r_ci (r_runV (rest := [.int v24]) (As := [.int 1, .int 7, .int 1]) hC 3 (m_X1_heightOrder x0r0 x0r0r0 x0r0r1 x0r0r2  o109.2.2.1 f111 o109.2.2.2 o109.2.1 v112 x0r0f5 x0r0f6 1 7 1 o121 eo121) q1604 q1288 q1289 q46 q1290 (OA.recv hS h_x0r0.OA (C := RX1) rfl) hd_X1_heightOrder rfl ⟨Nat.le_of_ble_eq_true rfl, Nat.le_of_ble_eq_true rfl⟩ hS ⟨h_x0r0, h_x0r0r0, h_x0r0r1, h_x0r0r2⟩ hl.1 rfl (Nat.le_of_ble_eq_true rfl) dX0_areRows_235 ⟨by have := hcE; have := hsE; omega, by have := hcE; have := hsE; omega⟩) hS (fun b H locs hp hS hz => ?_)
                  obtain ⟨eb_, hO⟩ := hp
                  rw [eb_]
                  have h_x0 := h_x0.ext hO
                  have h_x0r0 := h_x0r0.ext hO
                  have h_x0r0r0 := h_x0r0r0.ext hO
                  have h_x0r0r1 := h_x0r0r1.ext hO
                  have h_x0r0r2 := h_x0r0r2.ext hO
                  have hF := hF.trans (hO.mono (fun _ _ z => z.elim))
                  obtain ⟨K123, eK123, h⟩ := lt_step h
                  have HK123 : ∀ (v122 : Bool) (h : K123 v122 = some z106) (H : Heap) (locs : List Loc) (hS : St D s H locs) (hF : Off (fun a => a = x0r0 ∨ a = x0r0r0 ∨ a = x0r0r1 ∨ a = x0r0r2) s.heap H) (h_x0 : OA D 1 x0 [.ref x0r0] H) (h_x0r0 : ON D 0 x0r0 [.ref x0r0r0, .ref x0r0r1, .ref x0r0r2, .int o109.2.1, .int v112, .int x0r0f5, .int x0r0f6] H) (h_x0r0r0 : aD D x0r0r0 8 o109.2.2.1 H) (h_x0r0r1 : aD D x0r0r1 8 f111 H) (h_x0r0r2 : aZ D x0r0r2 8 o109.2.2.2 H) (ls : Array Slot) (hl : lv_has ls 13 [(0, .ref x0), (3, .int o1), (4, .int v4), (5, .int v6), (6, .int v113), (7, .int v120), (10, .int 1), (11, .int v26), (12, .int (bI v116))]), W p l e R_X0_areRows s m A below meth c H locs (cl + 419) (sl + 4173) Q (F0 m 246 ls [.int (bI v122), .int v24]) := by
                    intro v122 h H locs hS hF h_x0 h_x0r0 h_x0r0r0 h_x0r0r1 h_x0r0r2 ls hl
                    subst eK123
                    obtain ⟨v124, ev124, h⟩ := lti_step h
                    refine r_iadd hx hb ev124 dX0_areRows_246 ?_
                    refine lv_istore (lv' := [(8, .int v124), (0, .ref x0), (3, .int o1), (4, .int v4), (5, .int v6), (6, .int v113), (7, .int v120), (10, .int 1), (11, .int v26), (12, .int (bI v116))]) hx hb dX0_areRows_247 hl (by decide) rfl (fun ls hl => ?_)
                    refine lv_iload hx hb dX0_areRows_249 (lv_at hl 9 rfl) ?_
                    refine lv_istore (lv' := [(9, .int (bI v116)), (8, .int v124), (0, .ref x0), (3, .int o1), (4, .int v4), (5, .int v6), (6, .int v113), (7, .int v120), (10, .int 1), (11, .int v26), (12, .int (bI v116))]) hx hb dX0_areRows_251 hl (by decide) rfl (fun ls hl => ?_)
                    obtain ⟨v125, ev125, h⟩ := lti_step h
                    refine lv_iinc (v := v125) (lv' := [(11, .int v125), (9, .int (bI v116)), (8, .int v124), (0, .ref x0), (3, .int o1), (4, .int v4), (5, .int v6), (6, .int v113), (7, .int v120), (10, .int 1), (12, .int (bI v116))]) hx hb dX0_areRows_253 hl (k := 9) rfl (by rw [ev125]; rfl) (by decide) rfl (fun ls hl => ?_)
                    refine lv_goto (tgt := 120) hx hb dX0_areRows_256 (by decide) ?_
                    obtain rfl := Option.some.inj h
                    exact ih o109.2.2.1 f111 o109.2.2.2 o109.2.1 v112 v113 v120 v124 v116 v125 w105 hk _ _ (hcN 419 (Nat.le_of_ble_eq_true rfl)) (hsN 4173 (Nat.le_of_ble_eq_true rfl)) H locs hS hF h_x0 h_x0r0 h_x0r0r0 h_x0r0r1 h_x0r0r2 ls (lv_sub hl [3, 4, 5, 6, 7, 8, 2, 1, 9, 0] rfl) K259
                  clear eK123
                  refine lv_if_ge (tgt := 245) hx hb dX0_areRows_238 (by decide) (fun c126 => ?_) (fun c126 => ?_)
                  · have h := it_pos h c126
                    refine lv_iconst (v := 0) hx hb dX0_areRows_245 (by decide) ?_
                    exact HK123 false h H locs hS hF h_x0 h_x0r0 h_x0r0r0 h_x0r0r1 h_x0r0r2 ls (lv_sub hl [1, 2, 3, 4, 5, 0, 7, 8, 9] rfl)
                  · have h := it_neg h c126
                    refine lv_iconst (v := 1) hx hb dX0_areRows_241 (by decide) ?_
                    refine lv_goto (tgt := 246) hx hb dX0_areRows_242 (by decide) ?_
                    exact HK123 true h H locs hS hF h_x0 h_x0r0 h_x0r0r0 h_x0r0r1 h_x0r0r2 ls (lv_sub hl [1, 2, 3, 4, 5, 0, 7, 8, 9] rfl)
                clear eK119
                obtain ⟨K127, eK127, h⟩ := lt_step h
                have HK127 : ∀  (h : K127 () = some z106) (H : Heap) (locs : List Loc) (hS : St D s H locs) (hF : Off (fun a => a = x0r0 ∨ a = x0r0r0 ∨ a = x0r0r1 ∨ a = x0r0r2) s.heap H) (h_x0 : OA D 1 x0 [.ref x0r0] H) (h_x0r0 : ON D 0 x0r0 [.ref x0r0r0, .ref x0r0r1, .ref x0r0r2, .int o109.2.1, .int v112, .int x0r0f5, .int x0r0f6] H) (h_x0r0r0 : aD D x0r0r0 8 o109.2.2.1 H) (h_x0r0r1 : aD D x0r0r1 8 f111 H) (h_x0r0r2 : aZ D x0r0r2 8 o109.2.2.2 H) (ls : Array Slot) (hl : lv_has ls 13 [(0, .ref x0), (3, .int o1), (4, .int v4), (5, .int v6), (6, .int v113), (8, .int v24), (10, .int 1), (11, .int v26), (12, .int (bI v116))]), W p l e R_X0_areRows s m A below meth c H locs (cl + 417) (sl + 4171) Q (F0 m 221 ls [.int v23]) := by
                  intro h H locs hS hF h_x0 h_x0r0 h_x0r0r0 h_x0r0r1 h_x0r0r2 ls hl
                  subst eK127
                  refine lv_iconst (v := 0) hx hb dX0_areRows_221 (by decide) ?_
                  exact HK119 false h H locs hS hF h_x0 h_x0r0 h_x0r0r0 h_x0r0r1 h_x0r0r2 ls (lv_sub hl [0, 1, 2, 3, 4, 5, 6, 7, 8] rfl)
                clear eK127
                refine lv_if_le (tgt := 221) hx hb dX0_areRows_207 (by decide) (fun c128 => ?_) (fun c128 => ?_)
                · have h := it_pos h c128
                  exact HK127  h H locs hS hF h_x0 h_x0r0 h_x0r0r0 h_x0r0r1 h_x0r0r2 ls (lv_sub hl [1, 2, 3, 4, 5, 7, 9, 10, 0] rfl)
                · have h := it_neg h c128
                  refine lv_iload hx hb dX0_areRows_210 (lv_at hl 0 rfl) ?_
                  refine lv_iload hx hb dX0_areRows_212 (lv_at hl 8 rfl) ?_
                  refine lv_icmp_eq (tgt := 221) hx hb dX0_areRows_214 (by decide) (fun c129 => ?_) (fun c129 => ?_)
                  · have h := it_pos h c129
                    exact HK127  h H locs hS hF h_x0 h_x0r0 h_x0r0r0 h_x0r0r1 h_x0r0r2 ls (lv_sub hl [1, 2, 3, 4, 5, 7, 9, 10, 0] rfl)
                  · have h := it_neg h c129
                    refine lv_iconst (v := 1) hx hb dX0_areRows_217 (by decide) ?_
                    refine lv_goto (tgt := 222) hx hb dX0_areRows_218 (by decide) ?_
                    exact HK119 true h H locs hS hF h_x0 h_x0r0 h_x0r0r0 h_x0r0r1 h_x0r0r2 ls (lv_sub hl [1, 2, 3, 4, 5, 7, 9, 10, 0] rfl)
              clear eK117
              refine lv_if_ge (tgt := 200) hx hb dX0_areRows_193 (by decide) (fun c130 => ?_) (fun c130 => ?_)
              · have h := it_pos h c130
                refine lv_iconst (v := 0) hx hb dX0_areRows_200 (by decide) ?_
                exact HK117 false h H locs hS hF h_x0 h_x0r0 h_x0r0r0 h_x0r0r1 h_x0r0r2 ls (lv_sub hl [0, 1, 2, 3, 4, 5, 6, 7, 8, 9] rfl)
              · have h := it_neg h c130
                refine lv_iconst (v := 1) hx hb dX0_areRows_196 (by decide) ?_
                refine lv_goto (tgt := 201) hx hb dX0_areRows_197 (by decide) ?_
                exact HK117 true h H locs hS hF h_x0 h_x0r0 h_x0r0r0 h_x0r0r1 h_x0r0r2 ls (lv_sub hl [0, 1, 2, 3, 4, 5, 6, 7, 8, 9] rfl)
            clear eK114
            obtain ⟨K131, eK131, h⟩ := lt_step h
            have HK131 : ∀  (h : K131 () = some z106) (H : Heap) (locs : List Loc) (hS : St D s H locs) (hF : Off (fun a => a = x0r0 ∨ a = x0r0r0 ∨ a = x0r0r1 ∨ a = x0r0r2) s.heap H) (h_x0 : OA D 1 x0 [.ref x0r0] H) (h_x0r0 : ON D 0 x0r0 [.ref x0r0r0, .ref x0r0r1, .ref x0r0r2, .int o109.2.1, .int o110.2.1, .int x0r0f5, .int x0r0f6] H) (h_x0r0r0 : aD D x0r0r0 8 o109.2.2.1 H) (h_x0r0r1 : aD D x0r0r1 8 o110.2.2 H) (h_x0r0r2 : aZ D x0r0r2 8 o109.2.2.2 H) (ls : Array Slot) (hl : lv_has ls 13 [(0, .ref x0), (3, .int o1), (4, .int v4), (5, .int v6), (7, .int v23), (8, .int v24), (9, .int (bI v25)), (10, .int 1), (11, .int v26)]), W p l e R_X0_areRows s m A below meth c H locs (cl + 417) (sl + 4171) Q (F0 m 167 ls []) := by
              intro h H locs hS hF h_x0 h_x0r0 h_x0r0r0 h_x0r0r1 h_x0r0r2 ls hl
              subst eK131
              refine lv_aload_n hx hb dX0_areRows_167 rfl (lv_at hl 0 rfl) ?_
              refine r_get hx hb hts hown hS h_x0 rfl in_X0 0 (by decide) q936 rfl (v := .ref x0r0) rfl dX0_areRows_168 ?_
              refine lv_iconst (v := 1) hx hb dX0_areRows_171 (by decide) ?_
              refine lv_iconst (v := 1) hx hb dX0_areRows_172 (by decide) ?_
              refine lv_iconst (v := 0) hx hb dX0_areRows_173 (by decide) ?_
              obtain ⟨o132, eo132, h⟩ := bind_step h
              refine r_ci (r_runV (rest := []) (As := [.int 1, .int 1, .int 0]) hC 3 (m_X1_heightMax x0r0 x0r0r0 x0r0r1 x0r0r2  o109.2.2.1 o110.2.2 o109.2.2.2 o109.2.1 o110.2.1 x0r0f5 x0r0f6 1 1 0 o132 eo132) q1712 q1713 q1714 q46 q1715 (OA.recv hS h_x0r0.OA (C := RX1) rfl) hd_X1_heightMax rfl ⟨Nat.le_of_ble_eq_true rfl, Nat.le_of_ble_eq_true rfl⟩ hS ⟨h_x0r0, hB_h_x0r0, h_x0r0r0, h_x0r0r1, hB_h_x0r0r1, h_x0r0r2, ne_x0r0_x0r0r0, ne_x0r0_x0r0r1, ne_x0r0_x0r0r2, ne_x0r0r0_x0r0r1, ne_x0r0r1_x0r0r2⟩ hl.1 rfl (Nat.le_of_ble_eq_true rfl) dX0_areRows_174 ⟨by have := hcE; have := hsE; omega, by have := hcE; have := hsE; omega⟩) hS (fun b H locs hp hS hz => ?_)
              obtain ⟨rfl, h_x0r0, h_x0r0r1, hO⟩ := hp
              have h_x0 := h_x0.off hO (fun z => by rcases z with z | z <;> first | exact ne_x0_x0r0 z | exact ne_x0_x0r0r1 z)
              have h_x0r0r0 := h_x0r0r0.off hO (fun z => by rcases z with z | z <;> first | exact (Ne.symm ne_x0r0_x0r0r0) z | exact ne_x0r0r0_x0r0r1 z)
              have h_x0r0r2 := h_x0r0r2.off hO (fun z => by rcases z with z | z <;> first | exact (Ne.symm ne_x0r0_x0r0r2) z | exact (Ne.symm ne_x0r0r1_x0r0r2) z)
              have hF := hF.fresh hO (fun a ha z => by
                rcases z with z | z
                · exact Or.inl z
                · exact Or.inr (Or.inr (Or.inl z)))
              refine lv_pop hx hb dX0_areRows_177 rfl ?_
              refine lv_iload hx hb dX0_areRows_178 (lv_at hl 3 rfl) ?_
              refine lv_iload hx hb dX0_areRows_180 (lv_at hl 8 rfl) ?_
              obtain ⟨v133, ev133, h⟩ := lti_step h
              refine r_iadd hx hb ev133 dX0_areRows_182 ?_
              refine lv_istore (lv' := [(6, .int v133), (0, .ref x0), (3, .int o1), (4, .int v4), (5, .int v6), (7, .int v23), (8, .int v24), (9, .int (bI v25)), (10, .int 1), (11, .int v26)]) hx hb dX0_areRows_183 hl (by decide) rfl (fun ls hl => ?_)
              exact HK114 o132.2.2 o132.2.1 v133 h H locs hS hF h_x0 h_x0r0 h_x0r0r0 h_x0r0r1 h_x0r0r2 ls (lv_sub hl [1, 2, 3, 4, 0, 5, 6, 7, 8, 9] rfl)
            clear eK131
            refine lv_if_eq (tgt := 167) hx hb dX0_areRows_151 (by decide) (fun c134 => ?_) (fun c134 => ?_)
            · have h := it_pos h c134
              refine W.widen (k := cl + 417) (n := sl + 4171) (by omega) (by omega) ?_
              exact HK131  h H locs hS hF h_x0 h_x0r0 h_x0r0r0 h_x0r0r1 h_x0r0r2 ls (lv_sub hl [0, 1, 2, 3, 5, 6, 7, 8, 9] rfl)
            · have h := it_neg h c134
              refine lv_aload_n hx hb dX0_areRows_154 rfl (lv_at hl 0 rfl) ?_
              refine r_get hx hb hts hown hS h_x0 rfl in_X0 0 (by decide) q936 rfl (v := .ref x0r0) rfl dX0_areRows_155 ?_
              refine lv_iconst (v := 1) hx hb dX0_areRows_158 (by decide) ?_
              refine lv_iconst (v := 0) hx hb dX0_areRows_159 (by decide) ?_
              refine lv_iconst (v := 0) hx hb dX0_areRows_160 (by decide) ?_
              obtain ⟨o135, eo135, h⟩ := bind_step h
              refine r_ci (r_runV (rest := []) (As := [.int 1, .int 0, .int 0]) hC 3 (m_X1_heightOrder x0r0 x0r0r0 x0r0r1 x0r0r2  o109.2.2.1 o110.2.2 o109.2.2.2 o109.2.1 o110.2.1 x0r0f5 x0r0f6 1 0 0 o135 eo135) q1604 q1288 q1289 q46 q1290 (OA.recv hS h_x0r0.OA (C := RX1) rfl) hd_X1_heightOrder rfl ⟨Nat.le_of_ble_eq_true rfl, Nat.le_of_ble_eq_true rfl⟩ hS ⟨h_x0r0, h_x0r0r0, h_x0r0r1, h_x0r0r2⟩ hl.1 rfl (Nat.le_of_ble_eq_true rfl) dX0_areRows_161 ⟨by have := hcE; have := hsE; omega, by have := hcE; have := hsE; omega⟩) hS (fun b H locs hp hS hz => ?_)
              obtain ⟨eb_, hO⟩ := hp
              rw [eb_]
              have h_x0 := h_x0.ext hO
              have h_x0r0 := h_x0r0.ext hO
              have h_x0r0r0 := h_x0r0r0.ext hO
              have h_x0r0r1 := h_x0r0r1.ext hO
              have h_x0r0r2 := h_x0r0r2.ext hO
              have hF := hF.trans (hO.mono (fun _ _ z => z.elim))
              refine lv_if_le (tgt := 185) hx hb dX0_areRows_164 (by decide) (fun c136 => ?_) (fun c136 => ?_)
              · have h := it_pos h c136
                exact HK114 o110.2.2 o110.2.1 v22 h H locs hS hF h_x0 h_x0r0 h_x0r0r0 h_x0r0r1 h_x0r0r2 ls (lv_sub hl [0, 1, 2, 3, 4, 5, 6, 7, 8, 9] rfl)
              · have h := it_neg h c136
                exact HK131  h H locs hS hF h_x0 h_x0r0 h_x0r0r0 h_x0r0r1 h_x0r0r2 ls (lv_sub hl [0, 1, 2, 3, 5, 6, 7, 8, 9] rfl)
      clear eF104
      refine HL 17 o11.2.2.1 f14 o11.2.2.2 o11.2.1 v15 v6 0 0 false 0 w105 ew105 _ _ (Nat.le_of_eq eCE.symm) (Nat.le_of_eq eSE.symm) H locs hS hF h_x0 h_x0r0 h_x0r0r0 h_x0r0r1 h_x0r0r2 ls (lv_sub hl [2, 3, 4, 5, 6, 7, 8, 9, 1, 0] rfl) (fun  H locs hS hF h_x0 h_x0r0 h_x0r0r0 h_x0r0r1 h_x0r0r2 ls hl => ?_)
      rw [eCE, eSE]
      refine lv_iload hx hb dX0_areRows_259 (lv_at hl 7 rfl) ?_
      refine lv_if_eq (tgt := 321) hx hb dX0_areRows_261 (by decide) (fun c137 => ?_) (fun c137 => ?_)
      · exact absurd c137 (by decide)
      refine lv_aload_n hx hb dX0_areRows_264 rfl (lv_at hl 0 rfl) ?_
      refine r_get hx hb hts hown hS h_x0 rfl in_X0 0 (by decide) q936 rfl (v := .ref x0r0) rfl dX0_areRows_265 ?_
      refine lv_iload_n hx hb dX0_areRows_268 rfl (lv_at hl 1 rfl) ?_
      refine lv_iload hx hb dX0_areRows_269 (lv_at hl 3 rfl) ?_
      refine lv_iload hx hb dX0_areRows_271 (lv_at hl 2 rfl) ?_
      obtain ⟨o138, eo138, h⟩ := bind_step h
      refine r_ci (r_runV (rest := []) (As := [.int o1, .int v6, .int v4]) hC 3 (m_X1_peak x0r0 x0r0r0 x0r0r1 x0r0r2  w105.1 w105.2.1 w105.2.2.1 w105.2.2.2.1 w105.2.2.2.2.1 x0r0f5 x0r0f6 o1 v6 v4 o138 eo138) q1386 q1387 q1388 q46 q1389 (OA.recv hS h_x0r0.OA (C := RX1) rfl) hd_X1_peak rfl ⟨Nat.le_of_ble_eq_true rfl, Nat.le_of_ble_eq_true rfl⟩ hS ⟨h_x0r0, h_x0r0r0, h_x0r0r1, h_x0r0r2⟩ hl.1 rfl (Nat.le_of_ble_eq_true rfl) dX0_areRows_273 ⟨Nat.le_of_ble_eq_true rfl, Nat.le_of_ble_eq_true rfl⟩) hS (fun b H locs hp hS hz => ?_)
      obtain ⟨eb_, hO⟩ := hp
      rw [eb_]
      have h_x0 := h_x0.ext hO
      have h_x0r0 := h_x0r0.ext hO
      have h_x0r0r0 := h_x0r0r0.ext hO
      have h_x0r0r1 := h_x0r0r1.ext hO
      have h_x0r0r2 := h_x0r0r2.ext hO
      have hF := hF.trans (hO.mono (fun _ _ z => z.elim))
      refine lv_iload hx hb dX0_areRows_276 (lv_at hl 4 rfl) ?_
      refine lv_icmp_ne (tgt := 321) hx hb dX0_areRows_278 (by decide) (fun c139 => ?_) (fun c139 => ?_)
      · have h := it_neg h c139
        refine lv_iconst (v := 0) hx hb dX0_areRows_321 (by decide) ?_
        obtain rfl := Option.some.inj h
        rw [eQ]
        exact r_zret hx hb hr hlk hS (by decide) (Nat.le_of_ble_eq_true rfl) (Nat.le_of_ble_eq_true rfl) dX0_areRows_322 ⟨_, rfl, rfl, h_x0r0, h_x0r0r0, h_x0r0r1, h_x0r0r2, hF⟩
      · have h := it_pos h c139
        refine lv_aload_n hx hb dX0_areRows_281 rfl (lv_at hl 0 rfl) ?_
        refine r_get hx hb hts hown hS h_x0 rfl in_X0 0 (by decide) q936 rfl (v := .ref x0r0) rfl dX0_areRows_282 ?_
        refine lv_iload_n hx hb dX0_areRows_285 rfl (lv_at hl 1 rfl) ?_
        refine lv_iload hx hb dX0_areRows_286 (lv_at hl 3 rfl) ?_
        refine lv_iload hx hb dX0_areRows_288 (lv_at hl 2 rfl) ?_
        obtain ⟨o140, eo140, h⟩ := bind_step h
        refine r_ci (r_runV (rest := []) (As := [.int o1, .int v6, .int v4]) hC 3 (m_X1_crossings x0r0 x0r0r0 x0r0r1 x0r0r2  w105.1 w105.2.1 w105.2.2.1 w105.2.2.2.1 w105.2.2.2.2.1 x0r0f5 x0r0f6 o1 v6 v4 o140 eo140) q1393 q1394 q1395 q46 q1396 (OA.recv hS h_x0r0.OA (C := RX1) rfl) hd_X1_crossings rfl ⟨Nat.le_of_ble_eq_true rfl, Nat.le_of_ble_eq_true rfl⟩ hS ⟨h_x0r0, h_x0r0r0, h_x0r0r1, h_x0r0r2⟩ hl.1 rfl (Nat.le_of_ble_eq_true rfl) dX0_areRows_290 ⟨Nat.le_of_ble_eq_true rfl, Nat.le_of_ble_eq_true rfl⟩) hS (fun b H locs hp hS hz => ?_)
        obtain ⟨eb_, hO⟩ := hp
        rw [eb_]
        have h_x0 := h_x0.ext hO
        have h_x0r0 := h_x0r0.ext hO
        have h_x0r0r0 := h_x0r0r0.ext hO
        have h_x0r0r1 := h_x0r0r1.ext hO
        have h_x0r0r2 := h_x0r0r2.ext hO
        have hF := hF.trans (hO.mono (fun _ _ z => z.elim))
        refine lv_iload hx hb dX0_areRows_293 (lv_at hl 5 rfl) ?_
        refine lv_icmp_ne (tgt := 321) hx hb dX0_areRows_295 (by decide) (fun c141 => ?_) (fun c141 => ?_)
        · have h := it_neg h c141
          refine lv_iconst (v := 0) hx hb dX0_areRows_321 (by decide) ?_
          obtain rfl := Option.some.inj h
          rw [eQ]
          exact r_zret hx hb hr hlk hS (by decide) (Nat.le_of_ble_eq_true rfl) (Nat.le_of_ble_eq_true rfl) dX0_areRows_322 ⟨_, rfl, rfl, h_x0r0, h_x0r0r0, h_x0r0r1, h_x0r0r2, hF⟩
        · have h := it_pos h c141
          refine lv_aload_n hx hb dX0_areRows_298 rfl (lv_at hl 0 rfl) ?_
          refine r_get hx hb hts hown hS h_x0 rfl in_X0 0 (by decide) q936 rfl (v := .ref x0r0) rfl dX0_areRows_299 ?_
          refine lv_iload_n hx hb dX0_areRows_302 rfl (lv_at hl 1 rfl) ?_
          refine lv_iload hx hb dX0_areRows_303 (lv_at hl 3 rfl) ?_
          refine lv_iload hx hb dX0_areRows_305 (lv_at hl 2 rfl) ?_
          refine lv_bipush (v := 7) hx hb dX0_areRows_307 (by decide) ?_
          obtain ⟨o142, eo142, h⟩ := bind_step h
          refine r_ci (r_runV (rest := []) (As := [.int o1, .int v6, .int v4, .int 7]) hC 4 (m_X1_ahead x0r0 x0r0r0 x0r0r1 x0r0r2  w105.1 w105.2.1 w105.2.2.1 w105.2.2.2.1 w105.2.2.2.2.1 x0r0f5 x0r0f6 o1 v6 v4 7 o142 eo142) q1397 q1398 q1399 q46 q1400 (OA.recv hS h_x0r0.OA (C := RX1) rfl) hd_X1_ahead rfl ⟨Nat.le_of_ble_eq_true rfl, Nat.le_of_ble_eq_true rfl⟩ hS ⟨h_x0r0, h_x0r0r0, h_x0r0r1, h_x0r0r2⟩ hl.1 rfl (Nat.le_of_ble_eq_true rfl) dX0_areRows_309 ⟨Nat.le_of_ble_eq_true rfl, Nat.le_of_ble_eq_true rfl⟩) hS (fun b H locs hp hS hz => ?_)
          obtain ⟨eb_, hO⟩ := hp
          rw [eb_]
          have h_x0 := h_x0.ext hO
          have h_x0r0 := h_x0r0.ext hO
          have h_x0r0r0 := h_x0r0r0.ext hO
          have h_x0r0r1 := h_x0r0r1.ext hO
          have h_x0r0r2 := h_x0r0r2.ext hO
          have hF := hF.trans (hO.mono (fun _ _ z => z.elim))
          refine lv_iload hx hb dX0_areRows_312 (lv_at hl 6 rfl) ?_
          refine lv_icmp_ne (tgt := 321) hx hb dX0_areRows_314 (by decide) (fun c143 => ?_) (fun c143 => ?_)
          · have h := it_neg h c143
            refine lv_iconst (v := 0) hx hb dX0_areRows_321 (by decide) ?_
            obtain rfl := Option.some.inj h
            rw [eQ]
            exact r_zret hx hb hr hlk hS (by decide) (Nat.le_of_ble_eq_true rfl) (Nat.le_of_ble_eq_true rfl) dX0_areRows_322 ⟨_, rfl, rfl, h_x0r0, h_x0r0r0, h_x0r0r1, h_x0r0r2, hF⟩
          · have h := it_pos h c143
            refine lv_iconst (v := 1) hx hb dX0_areRows_317 (by decide) ?_
            refine lv_goto (tgt := 322) hx hb dX0_areRows_318 (by decide) ?_
            obtain rfl := Option.some.inj h
            rw [eQ]
            exact r_zret hx hb hr hlk hS (by decide) (Nat.le_of_ble_eq_true rfl) (Nat.le_of_ble_eq_true rfl) dX0_areRows_322 ⟨_, rfl, rfl, h_x0r0, h_x0r0r0, h_x0r0r1, h_x0r0r2, hF⟩
    clear eK16
    refine lv_if_eq (tgt := 114) hx hb dX0_areRows_101 (by decide) (fun c144 => ?_) (fun c144 => ?_)
    · have h := it_pos h c144
      exact HK16 o12.2.2 o12.2.1 h H locs hS hF h_x0 h_x0r0 h_x0r0r0 h_x0r0r1 h_x0r0r2 ls (lv_sub hl [5, 8, 9, 4, 3, 2, 1, 0] rfl)
    · have h := it_neg h c144
      refine lv_aload_n hx hb dX0_areRows_104 rfl (lv_at hl 5 rfl) ?_
      refine r_get hx hb hts hown hS h_x0 rfl in_X0 0 (by decide) q936 rfl (v := .ref x0r0) rfl dX0_areRows_105 ?_
      refine lv_bipush (v := 7) hx hb dX0_areRows_108 (by decide) ?_
      obtain ⟨o145, eo145, h⟩ := bind_step h
      refine r_ci (r_runV (rest := []) (As := [.int 7]) hC 1 (m_X1_flip x0r0 x0r0r0 x0r0r1 x0r0r2  o11.2.2.1 o12.2.2 o11.2.2.2 o11.2.1 o12.2.1 x0r0f5 x0r0f6 7 o145 eo145) q1568 q1569 q1570 q46 q1571 (OA.recv hS h_x0r0.OA (C := RX1) rfl) hd_X1_flip rfl ⟨Nat.le_of_ble_eq_true rfl, Nat.le_of_ble_eq_true rfl⟩ hS ⟨h_x0r0, hB_h_x0r0, h_x0r0r0, h_x0r0r1, hB_h_x0r0r1, h_x0r0r2, ne_x0r0_x0r0r0, ne_x0r0_x0r0r1, ne_x0r0_x0r0r2, ne_x0r0r0_x0r0r1, ne_x0r0r1_x0r0r2⟩ hl.1 rfl (Nat.le_of_ble_eq_true rfl) dX0_areRows_110 ⟨Nat.le_of_ble_eq_true rfl, Nat.le_of_ble_eq_true rfl⟩) hS (fun b H locs hp hS hz => ?_)
      obtain ⟨rfl, h_x0r0, h_x0r0r1, hO⟩ := hp
      have h_x0 := h_x0.off hO (fun z => by rcases z with z | z <;> first | exact ne_x0_x0r0 z | exact ne_x0_x0r0r1 z)
      have h_x0r0r0 := h_x0r0r0.off hO (fun z => by rcases z with z | z <;> first | exact (Ne.symm ne_x0r0_x0r0r0) z | exact ne_x0r0r0_x0r0r1 z)
      have h_x0r0r2 := h_x0r0r2.off hO (fun z => by rcases z with z | z <;> first | exact (Ne.symm ne_x0r0_x0r0r2) z | exact (Ne.symm ne_x0r0r1_x0r0r2) z)
      have hF := hF.fresh hO (fun a ha z => by
        rcases z with z | z
        · exact Or.inl z
        · exact Or.inr (Or.inr (Or.inl z)))
      refine lv_pop hx hb dX0_areRows_113 rfl ?_
      exact HK16 o145.2.2 o145.2.1 h H locs hS hF h_x0 h_x0r0 h_x0r0r0 h_x0r0r1 h_x0r0r2 ls (lv_sub hl [5, 8, 9, 4, 3, 2, 1, 0] rfl)
  clear eK7
  refine lv_if_ne (tgt := 39) hx hb dX0_areRows_22 (by decide) (fun c146 => ?_) (fun c146 => ?_)
  · have h := it_neg h c146
    refine lv_iload_n hx hb dX0_areRows_39 rfl (lv_at hl 4 rfl) ?_
    refine lv_ldc hx hb (v := 65538) hown (hts _ q1711) dX0_areRows_40 ?_
    refine lv_iload hx hb dX0_areRows_42 (lv_at hl 0 rfl) ?_
    obtain ⟨v147, ev147, h⟩ := lti_step h
    refine r_isub hx hb ev147 dX0_areRows_44 ?_
    obtain ⟨o148, eo148, h⟩ := bind_step h
    refine r_cp (r_runS (rest := []) (As := [.int x2, .int v147]) hC 2 (m_X0_some   x2 v147 o148 eo148) q1244 q1245 q39 q1246 hd_X0_some rfl ⟨Nat.le_of_ble_eq_true rfl, Nat.le_of_ble_eq_true rfl⟩ hS trivial hl.1 rfl (Nat.le_of_ble_eq_true rfl) dX0_areRows_45 ⟨Nat.le_of_ble_eq_true rfl, Nat.le_of_ble_eq_true rfl⟩) ?_
    refine lv_ldc hx hb (v := 32768) hown (hts _ q1385) dX0_areRows_48 ?_
    obtain ⟨v149, ev149, h⟩ := lti_step h
    refine r_isub hx hb ev149 dX0_areRows_50 ?_
    exact HK7 v149 h H locs hS hF h_x0 h_x0r0 h_x0r0r0 h_x0r0r1 h_x0r0r2 ls (lv_sub hl [2, 3, 4, 1, 0] rfl)
  · have h := it_pos h c146
    refine lv_iload_n hx hb dX0_areRows_25 rfl (lv_at hl 4 rfl) ?_
    refine lv_sipush (v := 400) hx hb dX0_areRows_26 (by decide) ?_
    obtain ⟨o150, eo150, h⟩ := bind_step h
    refine r_cp (r_runS (rest := []) (As := [.int x2, .int 400]) hC 2 (m_X0_some   x2 400 o150 eo150) q1244 q1245 q39 q1246 hd_X0_some rfl ⟨Nat.le_of_ble_eq_true rfl, Nat.le_of_ble_eq_true rfl⟩ hS trivial hl.1 rfl (Nat.le_of_ble_eq_true rfl) dX0_areRows_29 ⟨Nat.le_of_ble_eq_true rfl, Nat.le_of_ble_eq_true rfl⟩) ?_
    refine lv_sipush (v := 200) hx hb dX0_areRows_32 (by decide) ?_
    obtain ⟨v151, ev151, h⟩ := lti_step h
    refine r_isub hx hb ev151 dX0_areRows_35 ?_
    refine lv_goto (tgt := 51) hx hb dX0_areRows_36 (by decide) ?_
    exact HK7 v151 h H locs hS hF h_x0 h_x0r0 h_x0r0r0 h_x0r0r1 h_x0r0r2 ls (lv_sub hl [2, 3, 4, 1, 0] rfl)

abbrev R_X0_plain : Room := { frames := 7, cells := 154, slots := 1232, locals := 169 }
noncomputable def f_X0_plain (x0r0r0c : Nat → UInt64) (x0r0r1c : Nat → UInt64) (x0r0r2c : Nat → Int32) (x0r0f3 : Int32) (x0r0f4 : Int32) (x0r0f5 : Int32) (x0r0f6 : Int32) (x1 : Int32) : Option (Int64) :=
  Option.bind (f_X0_told_2 x0r0r0c x0r0r1c x0r0r2c x0r0f3 x0r0f4 x0r0f5 x0r0f6 x1) fun o1 =>
  lti (lg_cmp o1 0) fun v2 =>
  (if 0 ≤ v2 then
    Option.bind (f_X0_told_2 x0r0r0c x0r0r1c x0r0r2c x0r0f3 x0r0f4 x0r0f5 x0r0f6 x1) fun o4 =>
    some o4
  else
    Option.bind (f_X0_told_2 x0r0r0c x0r0r1c x0r0r2c x0r0f3 x0r0f4 x0r0f5 x0r0f6 x1) fun o5 =>
    ltl (((-1) - o5 : Int64)) fun v6 =>
    some v6
  )
theorem hd_X0_plain : Hd yX0_plain 1 := by unfold Hd; decide +kernel
set_option maxHeartbeats 4000000 in
set_option maxRecDepth 100000 in
theorem m_X0_plain {l : Launch} {D : DD} (x0 : Nat) (x0r0 : Nat) (x0r0r0 : Nat) (x0r0r1 : Nat) (x0r0r2 : Nat)  (x0r0r0c : Nat → UInt64) (x0r0r1c : Nat → UInt64) (x0r0r2c : Nat → Int32) (x0r0f3 : Int32) (x0r0f4 : Int32) (x0r0f5 : Int32) (x0r0f6 : Int32) (x1 : Int32) (r : Int64) (h : f_X0_plain x0r0r0c x0r0r1c x0r0r2c x0r0f3 x0r0f4 x0r0f5 x0r0f6 x1 = some r) : MT l D yX0_plain cX0_plain 2 (some .long) 7 169 154 1232 [.ref x0, .int x1] (fun H => OA D 1 x0 [.ref x0r0] H ∧ ON D 0 x0r0 [.ref x0r0r0, .ref x0r0r1, .ref x0r0r2, .int x0r0f3, .int x0r0f4, .int x0r0f5, .int x0r0f6] H ∧ aD D x0r0r0 8 x0r0r0c H ∧ aD D x0r0r1 8 x0r0r1c H ∧ aZ D x0r0r2 8 x0r0r2c H) (pL (fun H b H' => b = r ∧ Off (fun _ => False) H H')) := by
  refine MT.start (by decide +kernel) (Nat.le_of_ble_eq_true rfl) ?_
  intro p e s m below meth c ls hC hS hp hl
  obtain ⟨h_x0, h_x0r0, h_x0r0r0, h_x0r0r1, h_x0r0r2⟩ := hp
  obtain ⟨hx, hb, hr, hlk, hml, hown, hts, hnm⟩ := id hC
  have hl : lv_has ls 2 [(0, .ref x0), (1, .int x1)] := hl
  unfold f_X0_plain at h
  have hS0 := hS
  obtain ⟨A, eA⟩ : ∃ A : Array Value, A = [.ref x0, .int x1].toArray := ⟨_, rfl⟩
  rw [← eA] at hC hts ⊢
  obtain ⟨Q, eQ⟩ : ∃ Q : State → Prop, Q = MQ below (TQ D (pL (fun H b H' => b = r ∧ Off (fun _ => False) H H'))) A s 154 1232 (fun q => dB D ≤ q) := ⟨_, rfl⟩
  have hF : Off (fun _ => False) s.heap s.heap := Off.rf
  show W p l e R_X0_plain s m A below meth c s.heap [] 0 0 _ _
  rw [← eQ]
  obtain ⟨H, eH⟩ : ∃ H : Heap, H = s.heap := ⟨_, rfl⟩
  obtain ⟨locs, eLc⟩ : ∃ L : List Loc, L = [] := ⟨_, rfl⟩
  have lt_h_x0 := h_x0.lt
  have lt_h_x0r0 := h_x0r0.lt
  have lt_h_x0r0r0 := h_x0r0r0.lt
  have lt_h_x0r0r1 := h_x0r0r1.lt
  have lt_h_x0r0r2 := h_x0r0r2.lt
  rw [← eH, ← eLc]
  have hF : Off (fun _ => False) s.heap H := by rw [eH]; exact hF
  rw [← eH] at h_x0
  rw [← eH] at h_x0r0
  rw [← eH] at h_x0r0r0
  rw [← eH] at h_x0r0r1
  rw [← eH] at h_x0r0r2
  have hS : St D s H locs := by rw [eH, eLc]; exact hS
  refine lv_aload_n hx hb dX0_plain_0 rfl (lv_at hl 0 rfl) ?_
  refine lv_iload_n hx hb dX0_plain_1 rfl (lv_at hl 1 rfl) ?_
  obtain ⟨o1, eo1, h⟩ := bind_step h
  refine r_cl (r_runV (rest := []) (As := [.int x1]) hC 1 (m_X0_told_2 x0 x0r0 x0r0r0 x0r0r1 x0r0r2  x0r0r0c x0r0r1c x0r0r2c x0r0f3 x0r0f4 x0r0f5 x0r0f6 x1 o1 eo1) q1194 q1196 qs12 q39 q1197 (OA.recv hS h_x0 (C := RX0) rfl) hd_X0_told_2 rfl ⟨Nat.le_of_ble_eq_true rfl, Nat.le_of_ble_eq_true rfl⟩ hS ⟨h_x0, h_x0r0, h_x0r0r0, h_x0r0r1, h_x0r0r2⟩ hl.1 rfl (Nat.le_of_ble_eq_true rfl) dX0_plain_2 ⟨Nat.le_of_ble_eq_true rfl, Nat.le_of_ble_eq_true rfl⟩) hS (fun b H locs hp hS hz => ?_)
  obtain ⟨eb_, hO⟩ := hp
  rw [eb_]
  have h_x0 := h_x0.ext hO
  have h_x0r0 := h_x0r0.ext hO
  have h_x0r0r0 := h_x0r0r0.ext hO
  have h_x0r0r1 := h_x0r0r1.ext hO
  have h_x0r0r2 := h_x0r0r2.ext hO
  have hF := hF.trans (hO.mono (fun _ _ z => z.elim))
  refine lv_lconst (v := 0) hx hb dX0_plain_5 rfl ?_
  obtain ⟨v2, ev2, h⟩ := lti_step h
  refine r_lcmp hx hb ev2 dX0_plain_6 ?_
  refine lv_if_ge (tgt := 22) hx hb dX0_plain_7 (by decide) (fun c3 => ?_) (fun c3 => ?_)
  · have h := it_pos h c3
    refine lv_aload_n hx hb dX0_plain_22 rfl (lv_at hl 0 rfl) ?_
    refine lv_iload_n hx hb dX0_plain_23 rfl (lv_at hl 1 rfl) ?_
    obtain ⟨o4, eo4, h⟩ := bind_step h
    refine r_cl (r_runV (rest := []) (As := [.int x1]) hC 1 (m_X0_told_2 x0 x0r0 x0r0r0 x0r0r1 x0r0r2  x0r0r0c x0r0r1c x0r0r2c x0r0f3 x0r0f4 x0r0f5 x0r0f6 x1 o4 eo4) q1194 q1196 qs12 q39 q1197 (OA.recv hS h_x0 (C := RX0) rfl) hd_X0_told_2 rfl ⟨Nat.le_of_ble_eq_true rfl, Nat.le_of_ble_eq_true rfl⟩ hS ⟨h_x0, h_x0r0, h_x0r0r0, h_x0r0r1, h_x0r0r2⟩ hl.1 rfl (Nat.le_of_ble_eq_true rfl) dX0_plain_24 ⟨Nat.le_of_ble_eq_true rfl, Nat.le_of_ble_eq_true rfl⟩) hS (fun b H locs hp hS hz => ?_)
    obtain ⟨eb_, hO⟩ := hp
    rw [eb_]
    have h_x0 := h_x0.ext hO
    have h_x0r0 := h_x0r0.ext hO
    have h_x0r0r0 := h_x0r0r0.ext hO
    have h_x0r0r1 := h_x0r0r1.ext hO
    have h_x0r0r2 := h_x0r0r2.ext hO
    have hF := hF.trans (hO.mono (fun _ _ z => z.elim))
    obtain rfl := Option.some.inj h
    rw [eQ]
    exact r_lret hx hb hr hlk hS (Nat.le_of_ble_eq_true rfl) (Nat.le_of_ble_eq_true rfl) dX0_plain_27 ⟨_, rfl, rfl, hF⟩
  · have h := it_neg h c3
    refine lv_ldc2 hx hb (v := (-1)) hown (hts _ q1566) dX0_plain_10 ?_
    refine lv_aload_n hx hb dX0_plain_13 rfl (lv_at hl 0 rfl) ?_
    refine lv_iload_n hx hb dX0_plain_14 rfl (lv_at hl 1 rfl) ?_
    obtain ⟨o5, eo5, h⟩ := bind_step h
    refine r_cl (r_runV (rest := [.long (-1)]) (As := [.int x1]) hC 1 (m_X0_told_2 x0 x0r0 x0r0r0 x0r0r1 x0r0r2  x0r0r0c x0r0r1c x0r0r2c x0r0f3 x0r0f4 x0r0f5 x0r0f6 x1 o5 eo5) q1194 q1196 qs12 q39 q1197 (OA.recv hS h_x0 (C := RX0) rfl) hd_X0_told_2 rfl ⟨Nat.le_of_ble_eq_true rfl, Nat.le_of_ble_eq_true rfl⟩ hS ⟨h_x0, h_x0r0, h_x0r0r0, h_x0r0r1, h_x0r0r2⟩ hl.1 rfl (Nat.le_of_ble_eq_true rfl) dX0_plain_15 ⟨Nat.le_of_ble_eq_true rfl, Nat.le_of_ble_eq_true rfl⟩) hS (fun b H locs hp hS hz => ?_)
    obtain ⟨eb_, hO⟩ := hp
    rw [eb_]
    have h_x0 := h_x0.ext hO
    have h_x0r0 := h_x0r0.ext hO
    have h_x0r0r0 := h_x0r0r0.ext hO
    have h_x0r0r1 := h_x0r0r1.ext hO
    have h_x0r0r2 := h_x0r0r2.ext hO
    have hF := hF.trans (hO.mono (fun _ _ z => z.elim))
    obtain ⟨v6, ev6, h⟩ := ltl_step h
    refine r_lsub hx hb ev6 dX0_plain_18 ?_
    refine lv_goto (tgt := 27) hx hb dX0_plain_19 (by decide) ?_
    obtain rfl := Option.some.inj h
    rw [eQ]
    exact r_lret hx hb hr hlk hS (Nat.le_of_ble_eq_true rfl) (Nat.le_of_ble_eq_true rfl) dX0_plain_27 ⟨_, rfl, rfl, hF⟩

abbrev R_X0_isFilled : Room := { frames := 11, cells := 324, slots := 3879, locals := 1460 }
noncomputable def f_X0_isFilled (x0r0r0c : Nat → UInt64) (x0r0r1c : Nat → UInt64) (x0r0r2c : Nat → Int32) (x0r0f3 : Int32) (x0r0f4 : Int32) (x0r0f5 : Int32) (x0r0f6 : Int32) (x1 : Int32) : Option (Bool × Int32 × (Nat → UInt64)) :=
  lti (x1 >>> (3 &&& 31)) fun v1 =>
  Option.bind (f_X0_some v1 3) fun o2 =>
  Option.bind (f_X1_fill x0r0r0c x0r0r1c x0r0r2c x0r0f3 x0r0f4 x0r0f5 x0r0f6 o2) fun o3 =>
  lt (fun (f4 : Nat → UInt64) (v5 : Int32) (v6 : Bool) =>
  lt (fun (v8 : Bool) (v9 : Int32) =>
  (show Option (Sum (Bool × Int32) (Bool)) from (
  (if 8 ≤ v9 then
    some (.inr v8)
  else
    lt (fun (v22 : Bool) =>
    lti (v9 + 1) fun v24 =>
    some (.inl (v22, v24))
    ) fun K23 =>
    lt (fun (_u : Unit) =>
    K23 false
    ) fun K25 =>
    (if v8 = true then
      Option.bind (f_X1_isAnswer x0r0r0c f4 x0r0r2c x0r0f3 v5 x0r0f5 x0r0f6 v9 o2 v9) fun o27 =>
      (if o27 = true then
        K23 true
      else
        K25 ()
      )
    else
      K25 ()
    )
  )
  ))
  ) fun F18 =>
  Option.bind (lp 9 (fun x => F18 x.1 x.2) (v6, 0)) fun w19 =>
  lt (fun (v29 : Bool) (v30 : Int32) =>
  (show Option (Sum (Bool × Int32) (Bool)) from (
  (if 8 ≤ v30 then
    some (.inr v29)
  else
    lt (fun (v46 : Bool) =>
    lti (v30 + 1) fun v48 =>
    some (.inl (v46, v48))
    ) fun K47 =>
    lt (fun (_u : Unit) =>
    K47 false
    ) fun K49 =>
    (if v29 = true then
      lti (v30 - 1) fun v51 =>
      Option.bind (f_X1_order x0r0r0c f4 x0r0r2c x0r0f3 v5 x0r0f5 x0r0f6 o2 v51 v30) fun o52 =>
      lti (v30 - 1) fun v53 =>
      Option.bind (f_X1_heightOrder x0r0r0c f4 x0r0r2c x0r0f3 v5 x0r0f5 x0r0f6 v53 v30 0) fun o54 =>
      (if o52 = o54 then
        K47 true
      else
        K49 ()
      )
    else
      K49 ()
    )
  )
  ))
  ) fun F42 =>
  Option.bind (lp 9 (fun x => F42 x.1 x.2) (w19, 1)) fun w43 =>
  some (w43, v5, f4)
  ) fun K7 =>
  lt (fun (f56 : Nat → UInt64) (v57 : Int32) =>
  K7 f56 v57 false
  ) fun K58 =>
  (if o3.1 < 0 then
    K58 o3.2.2 o3.2.1
  else
    Option.bind (f_X1_fill x0r0r0c o3.2.2 x0r0r2c x0r0f3 o3.2.1 x0r0f5 x0r0f6 o2) fun o60 =>
    (if o60.1 = 0 then
      K7 o60.2.2 o60.2.1 true
    else
      K58 o60.2.2 o60.2.1
    )
  )
theorem hd_X0_isFilled : Hd yX0_isFilled 1 := by unfold Hd; decide +kernel
set_option maxHeartbeats 4000000 in
set_option maxRecDepth 100000 in
theorem m_X0_isFilled {l : Launch} {D : DD} (x0 : Nat) (x0r0 : Nat) (x0r0r0 : Nat) (x0r0r1 : Nat) (x0r0r2 : Nat)  (x0r0r0c : Nat → UInt64) (x0r0r1c : Nat → UInt64) (x0r0r2c : Nat → Int32) (x0r0f3 : Int32) (x0r0f4 : Int32) (x0r0f5 : Int32) (x0r0f6 : Int32) (x1 : Int32) (r : Bool × Int32 × (Nat → UInt64)) (h : f_X0_isFilled x0r0r0c x0r0r1c x0r0r2c x0r0f3 x0r0f4 x0r0f5 x0r0f6 x1 = some r) : MT l D yX0_isFilled cX0_isFilled 5 (some .boolean) 11 1460 324 3879 [.ref x0, .int x1] (fun H => OA D 1 x0 [.ref x0r0] H ∧ ON D 0 x0r0 [.ref x0r0r0, .ref x0r0r1, .ref x0r0r2, .int x0r0f3, .int x0r0f4, .int x0r0f5, .int x0r0f6] H ∧ dB D ≤ x0r0 ∧ aD D x0r0r0 8 x0r0r0c H ∧ aD D x0r0r1 8 x0r0r1c H ∧ dB D ≤ x0r0r1 ∧ aZ D x0r0r2 8 x0r0r2c H ∧ x0 ≠ x0r0 ∧ x0 ≠ x0r0r1 ∧ x0r0 ≠ x0r0r0 ∧ x0r0 ≠ x0r0r1 ∧ x0r0 ≠ x0r0r2 ∧ x0r0r0 ≠ x0r0r1 ∧ x0r0r1 ≠ x0r0r2) (pZ (fun H b H' => b = r.1 ∧ ON D 0 x0r0 [.ref x0r0r0, .ref x0r0r1, .ref x0r0r2, .int x0r0f3, .int r.2.1, .int x0r0f5, .int x0r0f6] H' ∧ aD D x0r0r1 8 r.2.2 H' ∧ Off (fun a => a = x0r0 ∨ a = x0r0r1) H H')) := by
  refine MT.start (by decide +kernel) (Nat.le_of_ble_eq_true rfl) ?_
  intro p e s m below meth c ls hC hS hp hl
  obtain ⟨h_x0, h_x0r0, hB_h_x0r0, h_x0r0r0, h_x0r0r1, hB_h_x0r0r1, h_x0r0r2, ne_x0_x0r0, ne_x0_x0r0r1, ne_x0r0_x0r0r0, ne_x0r0_x0r0r1, ne_x0r0_x0r0r2, ne_x0r0r0_x0r0r1, ne_x0r0r1_x0r0r2⟩ := hp
  obtain ⟨hx, hb, hr, hlk, hml, hown, hts, hnm⟩ := id hC
  have hl : lv_has ls 5 [(0, .ref x0), (1, .int x1)] := hl
  unfold f_X0_isFilled at h
  have hS0 := hS
  obtain ⟨A, eA⟩ : ∃ A : Array Value, A = [.ref x0, .int x1].toArray := ⟨_, rfl⟩
  rw [← eA] at hC hts ⊢
  obtain ⟨Q, eQ⟩ : ∃ Q : State → Prop, Q = MQ below (TQ D (pZ (fun H b H' => b = r.1 ∧ ON D 0 x0r0 [.ref x0r0r0, .ref x0r0r1, .ref x0r0r2, .int x0r0f3, .int r.2.1, .int x0r0f5, .int x0r0f6] H' ∧ aD D x0r0r1 8 r.2.2 H' ∧ Off (fun a => a = x0r0 ∨ a = x0r0r1) H H'))) A s 324 3879 (fun q => dB D ≤ q) := ⟨_, rfl⟩
  have hF : Off (fun a => a = x0r0 ∨ a = x0r0r1) s.heap s.heap := Off.rf
  show W p l e R_X0_isFilled s m A below meth c s.heap [] 0 0 _ _
  rw [← eQ]
  obtain ⟨H, eH⟩ : ∃ H : Heap, H = s.heap := ⟨_, rfl⟩
  obtain ⟨locs, eLc⟩ : ∃ L : List Loc, L = [] := ⟨_, rfl⟩
  have lt_h_x0 := h_x0.lt
  have lt_h_x0r0 := h_x0r0.lt
  have lt_h_x0r0r0 := h_x0r0r0.lt
  have lt_h_x0r0r1 := h_x0r0r1.lt
  have lt_h_x0r0r2 := h_x0r0r2.lt
  rw [← eH, ← eLc]
  have hF : Off (fun a => a = x0r0 ∨ a = x0r0r1) s.heap H := by rw [eH]; exact hF
  rw [← eH] at h_x0
  rw [← eH] at h_x0r0
  rw [← eH] at h_x0r0r0
  rw [← eH] at h_x0r0r1
  rw [← eH] at h_x0r0r2
  have hS : St D s H locs := by rw [eH, eLc]; exact hS
  refine lv_iload_n hx hb dX0_isFilled_0 rfl (lv_at hl 1 rfl) ?_
  refine lv_iconst (v := 3) hx hb dX0_isFilled_1 (by decide) ?_
  obtain ⟨v1, ev1, h⟩ := lti_step h
  refine r_ishr hx hb ev1 dX0_isFilled_2 ?_
  refine lv_iconst (v := 3) hx hb dX0_isFilled_3 (by decide) ?_
  obtain ⟨o2, eo2, h⟩ := bind_step h
  refine r_cp (r_runS (rest := []) (As := [.int v1, .int 3]) hC 2 (m_X0_some   v1 3 o2 eo2) q1244 q1245 q39 q1246 hd_X0_some rfl ⟨Nat.le_of_ble_eq_true rfl, Nat.le_of_ble_eq_true rfl⟩ hS trivial hl.1 rfl (Nat.le_of_ble_eq_true rfl) dX0_isFilled_4 ⟨Nat.le_of_ble_eq_true rfl, Nat.le_of_ble_eq_true rfl⟩) ?_
  refine lv_istore_n (lv' := [(2, .int o2), (0, .ref x0), (1, .int x1)]) hx hb dX0_isFilled_7 rfl hl (by decide) rfl (fun ls hl => ?_)
  refine lv_aload_n hx hb dX0_isFilled_8 rfl (lv_at hl 1 rfl) ?_
  refine r_get hx hb hts hown hS h_x0 rfl in_X0 0 (by decide) q936 rfl (v := .ref x0r0) rfl dX0_isFilled_9 ?_
  refine lv_iload_n hx hb dX0_isFilled_12 rfl (lv_at hl 0 rfl) ?_
  obtain ⟨o3, eo3, h⟩ := bind_step h
  refine r_ci (r_runV (rest := []) (As := [.int o2]) hC 1 (m_X1_fill x0r0 x0r0r0 x0r0r1 x0r0r2  x0r0r0c x0r0r1c x0r0r2c x0r0f3 x0r0f4 x0r0f5 x0r0f6 o2 o3 eo3) q1381 q1382 q1383 q46 q1384 (OA.recv hS h_x0r0.OA (C := RX1) rfl) hd_X1_fill rfl ⟨Nat.le_of_ble_eq_true rfl, Nat.le_of_ble_eq_true rfl⟩ hS ⟨h_x0r0, hB_h_x0r0, h_x0r0r0, h_x0r0r1, hB_h_x0r0r1, h_x0r0r2, ne_x0r0_x0r0r0, ne_x0r0_x0r0r1, ne_x0r0_x0r0r2, ne_x0r0r0_x0r0r1, ne_x0r0r1_x0r0r2⟩ hl.1 rfl (Nat.le_of_ble_eq_true rfl) dX0_isFilled_13 ⟨Nat.le_of_ble_eq_true rfl, Nat.le_of_ble_eq_true rfl⟩) hS (fun b H locs hp hS hz => ?_)
  obtain ⟨rfl, h_x0r0, h_x0r0r1, hO⟩ := hp
  have h_x0 := h_x0.off hO (fun z => by rcases z with z | z <;> first | exact ne_x0_x0r0 z | exact ne_x0_x0r0r1 z)
  have h_x0r0r0 := h_x0r0r0.off hO (fun z => by rcases z with z | z <;> first | exact (Ne.symm ne_x0r0_x0r0r0) z | exact ne_x0r0r0_x0r0r1 z)
  have h_x0r0r2 := h_x0r0r2.off hO (fun z => by rcases z with z | z <;> first | exact (Ne.symm ne_x0r0_x0r0r2) z | exact (Ne.symm ne_x0r0r1_x0r0r2) z)
  have hF := hF.fresh hO (fun a ha z => by
    rcases z with z | z
    · exact Or.inl z
    · exact Or.inr (z))
  obtain ⟨K7, eK7, h⟩ := lt_step h
  have HK7 : ∀ (f4 : Nat → UInt64) (v5 : Int32) (v6 : Bool) (h : K7 f4 v5 v6 = some r) (H : Heap) (locs : List Loc) (hS : St D s H locs) (hF : Off (fun a => a = x0r0 ∨ a = x0r0r1) s.heap H) (h_x0 : OA D 1 x0 [.ref x0r0] H) (h_x0r0 : ON D 0 x0r0 [.ref x0r0r0, .ref x0r0r1, .ref x0r0r2, .int x0r0f3, .int v5, .int x0r0f5, .int x0r0f6] H) (h_x0r0r0 : aD D x0r0r0 8 x0r0r0c H) (h_x0r0r1 : aD D x0r0r1 8 f4 H) (h_x0r0r2 : aZ D x0r0r2 8 x0r0r2c H) (ls : Array Slot) (hl : lv_has ls 5 [(0, .ref x0), (2, .int o2)]), W p l e R_X0_isFilled s m A below meth c H locs 108 1530 Q (F0 m 35 ls [.int (bI v6)]) := by
    intro f4 v5 v6 h H locs hS hF h_x0 h_x0r0 h_x0r0r0 h_x0r0r1 h_x0r0r2 ls hl
    subst eK7
    refine lv_istore_n (lv' := [(3, .int (bI v6)), (0, .ref x0), (2, .int o2)]) hx hb dX0_isFilled_35 rfl hl (by decide) rfl (fun ls hl => ?_)
    refine lv_iconst (v := 0) hx hb dX0_isFilled_36 (by decide) ?_
    refine lv_istore (lv' := [(4, .int 0), (3, .int (bI v6)), (0, .ref x0), (2, .int o2)]) hx hb dX0_isFilled_37 hl (by decide) rfl (fun ls hl => ?_)
    obtain ⟨F18, eF18, h⟩ := lt_step h
    obtain ⟨w19, ew19, h⟩ := bind_step h
    obtain ⟨CE, eCE⟩ : ∃ x : Nat, x = 108 + 72 := ⟨_, rfl⟩
    obtain ⟨SE, eSE⟩ : ∃ x : Nat, x = 1530 + 783 := ⟨_, rfl⟩
    have hCE : CE ≤ R_X0_isFilled.cells := (by rw [eCE]; exact Nat.le_of_ble_eq_true rfl)
    have hSE : SE ≤ R_X0_isFilled.slots := (by rw [eSE]; exact Nat.le_of_ble_eq_true rfl)
    have HL : ∀ (n : Nat) (v8 : Bool) (v9 : Int32) (w19 : Bool) (hk0 : lp n (fun x => F18 x.1 x.2) (v8, v9) = some w19) (cl : Nat) (sl : Nat) (hcl : cl + 8 * n ≤ CE) (hsl : sl + 87 * n ≤ SE) (H : Heap) (locs : List Loc) (hS : St D s H locs) (hF : Off (fun a => a = x0r0 ∨ a = x0r0r1) s.heap H) (h_x0 : OA D 1 x0 [.ref x0r0] H) (h_x0r0 : ON D 0 x0r0 [.ref x0r0r0, .ref x0r0r1, .ref x0r0r2, .int x0r0f3, .int v5, .int x0r0f5, .int x0r0f6] H) (h_x0r0r0 : aD D x0r0r0 8 x0r0r0c H) (h_x0r0r1 : aD D x0r0r1 8 f4 H) (h_x0r0r2 : aZ D x0r0r2 8 x0r0r2c H) (ls : Array Slot) (hl : lv_has ls 5 [(0, .ref x0), (2, .int o2), (3, .int (bI v8)), (4, .int v9)]) (K77 : ∀ (H : Heap) (locs : List Loc) (hS : St D s H locs) (hF : Off (fun a => a = x0r0 ∨ a = x0r0r1) s.heap H) (h_x0 : OA D 1 x0 [.ref x0r0] H) (h_x0r0 : ON D 0 x0r0 [.ref x0r0r0, .ref x0r0r1, .ref x0r0r2, .int x0r0f3, .int v5, .int x0r0f5, .int x0r0f6] H) (h_x0r0r0 : aD D x0r0r0 8 x0r0r0c H) (h_x0r0r1 : aD D x0r0r1 8 f4 H) (h_x0r0r2 : aZ D x0r0r2 8 x0r0r2c H) (ls : Array Slot) (hl : lv_has ls 5 [(0, .ref x0), (2, .int o2), (3, .int (bI w19))]), W p l e R_X0_isFilled s m A below meth c H locs CE SE Q (F0 m 77 ls [])), W p l e R_X0_isFilled s m A below meth c H locs cl sl Q (F0 m 39 ls []) := by
      intro n
      induction n with
      | zero => intro v8 v9 w19 hk0 cl sl hcl hsl H locs hS hF h_x0 h_x0r0 h_x0r0r0 h_x0r0r1 h_x0r0r2 ls hl K77; exact lp_zero hk0
      | succ n ih =>
        intro v8 v9 w19 hk0 cl sl hcl hsl H locs hS hF h_x0 h_x0r0 h_x0r0r0 h_x0r0r1 h_x0r0r2 ls hl K77
        obtain ⟨z20, hz, hk⟩ := lp_step hk0
        have h := (congrFun (congrFun (eF18) v8) v9).symm.trans hz
        have hcO : cl + 8 ≤ CE := al_out hcl
        have hcE : cl + 8 ≤ R_X0_isFilled.cells := Nat.le_trans hcO hCE
        have hcN : ∀ a, a ≤ 8 → cl + a + 8 * n ≤ CE := fun a ha => al_next hcl ha
        have hcN0 : cl + 8 * n ≤ CE := al_next hcl (Nat.zero_le _)
        have hsO : sl + 87 ≤ SE := al_out hsl
        have hsE : sl + 87 ≤ R_X0_isFilled.slots := Nat.le_trans hsO hSE
        have hsN : ∀ a, a ≤ 87 → sl + a + 87 * n ≤ SE := fun a ha => al_next hsl ha
        have hsN0 : sl + 87 * n ≤ SE := al_next hsl (Nat.zero_le _)
        clear hcl hsl
        refine lv_iload hx hb dX0_isFilled_39 (lv_at hl 3 rfl) ?_
        refine lv_bipush (v := 8) hx hb dX0_isFilled_41 (by decide) ?_
        refine lv_icmp_ge (tgt := 77) hx hb dX0_isFilled_43 (by decide) (fun c21 => ?_) (fun c21 => ?_)
        · have h := it_pos h c21
          obtain rfl := Option.some.inj h
          obtain rfl := id hk
          refine W.widen (k := CE) (n := SE) (by omega) (by omega) ?_
          exact K77 H locs hS hF h_x0 h_x0r0 h_x0r0r0 h_x0r0r1 h_x0r0r2 ls (lv_sub hl [0, 1, 2] rfl)
        · have h := it_neg h c21
          refine lv_iload_n hx hb dX0_isFilled_46 rfl (lv_at hl 2 rfl) ?_
          obtain ⟨K23, eK23, h⟩ := lt_step h
          have HK23 : ∀ (v22 : Bool) (h : K23 v22 = some z20) (H : Heap) (locs : List Loc) (hS : St D s H locs) (hF : Off (fun a => a = x0r0 ∨ a = x0r0r1) s.heap H) (h_x0 : OA D 1 x0 [.ref x0r0] H) (h_x0r0 : ON D 0 x0r0 [.ref x0r0r0, .ref x0r0r1, .ref x0r0r2, .int x0r0f3, .int v5, .int x0r0f5, .int x0r0f6] H) (h_x0r0r0 : aD D x0r0r0 8 x0r0r0c H) (h_x0r0r1 : aD D x0r0r1 8 f4 H) (h_x0r0r2 : aZ D x0r0r2 8 x0r0r2c H) (ls : Array Slot) (hl : lv_has ls 5 [(0, .ref x0), (2, .int o2), (4, .int v9)]), W p l e R_X0_isFilled s m A below meth c H locs (cl + 8) (sl + 87) Q (F0 m 70 ls [.int (bI v22)]) := by
            intro v22 h H locs hS hF h_x0 h_x0r0 h_x0r0r0 h_x0r0r1 h_x0r0r2 ls hl
            subst eK23
            refine lv_istore_n (lv' := [(3, .int (bI v22)), (0, .ref x0), (2, .int o2), (4, .int v9)]) hx hb dX0_isFilled_70 rfl hl (by decide) rfl (fun ls hl => ?_)
            obtain ⟨v24, ev24, h⟩ := lti_step h
            refine lv_iinc (v := v24) (lv' := [(4, .int v24), (3, .int (bI v22)), (0, .ref x0), (2, .int o2)]) hx hb dX0_isFilled_71 hl (k := 3) rfl (by rw [ev24]; rfl) (by decide) rfl (fun ls hl => ?_)
            refine lv_goto (tgt := 39) hx hb dX0_isFilled_74 (by decide) ?_
            obtain rfl := Option.some.inj h
            exact ih v22 v24 w19 hk _ _ (hcN 8 (Nat.le_of_ble_eq_true rfl)) (hsN 87 (Nat.le_of_ble_eq_true rfl)) H locs hS hF h_x0 h_x0r0 h_x0r0r0 h_x0r0r1 h_x0r0r2 ls (lv_sub hl [2, 3, 1, 0] rfl) K77
          clear eK23
          obtain ⟨K25, eK25, h⟩ := lt_step h
          have HK25 : ∀  (h : K25 () = some z20) (H : Heap) (locs : List Loc) (hS : St D s H locs) (hF : Off (fun a => a = x0r0 ∨ a = x0r0r1) s.heap H) (h_x0 : OA D 1 x0 [.ref x0r0] H) (h_x0r0 : ON D 0 x0r0 [.ref x0r0r0, .ref x0r0r1, .ref x0r0r2, .int x0r0f3, .int v5, .int x0r0f5, .int x0r0f6] H) (h_x0r0r0 : aD D x0r0r0 8 x0r0r0c H) (h_x0r0r1 : aD D x0r0r1 8 f4 H) (h_x0r0r2 : aZ D x0r0r2 8 x0r0r2c H) (ls : Array Slot) (hl : lv_has ls 5 [(0, .ref x0), (2, .int o2), (4, .int v9)]), W p l e R_X0_isFilled s m A below meth c H locs (cl + 8) (sl + 87) Q (F0 m 69 ls []) := by
            intro h H locs hS hF h_x0 h_x0r0 h_x0r0r0 h_x0r0r1 h_x0r0r2 ls hl
            subst eK25
            refine lv_iconst (v := 0) hx hb dX0_isFilled_69 (by decide) ?_
            exact HK23 false h H locs hS hF h_x0 h_x0r0 h_x0r0r0 h_x0r0r1 h_x0r0r2 ls (lv_sub hl [0, 1, 2] rfl)
          clear eK25
          refine r_ifz_eq (tgt := 69) hx hb dX0_isFilled_47 (by decide) (fun c26 => ?_) (fun c26 => ?_)
          · have h := it_neg h (by rw [c26]; decide)
            refine W.widen (k := cl + 8) (n := sl + 87) (by omega) (by omega) ?_
            exact HK25  h H locs hS hF h_x0 h_x0r0 h_x0r0r0 h_x0r0r1 h_x0r0r2 ls (lv_sub hl [0, 1, 3] rfl)
          · have h := it_pos h (by rw [c26])
            refine lv_aload_n hx hb dX0_isFilled_50 rfl (lv_at hl 0 rfl) ?_
            refine r_get hx hb hts hown hS h_x0 rfl in_X0 0 (by decide) q936 rfl (v := .ref x0r0) rfl dX0_isFilled_51 ?_
            refine lv_iload hx hb dX0_isFilled_54 (lv_at hl 3 rfl) ?_
            refine lv_iload_n hx hb dX0_isFilled_56 rfl (lv_at hl 1 rfl) ?_
            refine lv_iload hx hb dX0_isFilled_57 (lv_at hl 3 rfl) ?_
            obtain ⟨o27, eo27, h⟩ := bind_step h
            refine r_cz (r_runV (rest := []) (As := [.int v9, .int o2, .int v9]) hC 3 (m_X1_isAnswer x0r0 x0r0r0 x0r0r1 x0r0r2  x0r0r0c f4 x0r0r2c x0r0f3 v5 x0r0f5 x0r0f6 v9 o2 v9 o27 eo27) q1419 q1420 q1421 q46 q1422 (OA.recv hS h_x0r0.OA (C := RX1) rfl) hd_X1_isAnswer rfl ⟨Nat.le_of_ble_eq_true rfl, Nat.le_of_ble_eq_true rfl⟩ hS ⟨h_x0r0, h_x0r0r0, h_x0r0r1, h_x0r0r2⟩ hl.1 rfl (Nat.le_of_ble_eq_true rfl) dX0_isFilled_59 ⟨by have := hcE; have := hsE; omega, by have := hcE; have := hsE; omega⟩) hS (fun b H locs hp hS hz => ?_)
            obtain ⟨eb_, hO⟩ := hp
            rw [eb_]
            have h_x0 := h_x0.ext hO
            have h_x0r0 := h_x0r0.ext hO
            have h_x0r0r0 := h_x0r0r0.ext hO
            have h_x0r0r1 := h_x0r0r1.ext hO
            have h_x0r0r2 := h_x0r0r2.ext hO
            have hF := hF.trans (hO.mono (fun _ _ z => z.elim))
            refine r_ifz_eq (tgt := 69) hx hb dX0_isFilled_62 (by decide) (fun c28 => ?_) (fun c28 => ?_)
            · have h := it_neg h (by rw [c28]; decide)
              exact HK25  h H locs hS hF h_x0 h_x0r0 h_x0r0r0 h_x0r0r1 h_x0r0r2 ls (lv_sub hl [0, 1, 3] rfl)
            · have h := it_pos h (by rw [c28])
              refine lv_iconst (v := 1) hx hb dX0_isFilled_65 (by decide) ?_
              refine lv_goto (tgt := 70) hx hb dX0_isFilled_66 (by decide) ?_
              exact HK23 true h H locs hS hF h_x0 h_x0r0 h_x0r0r0 h_x0r0r1 h_x0r0r2 ls (lv_sub hl [0, 1, 3] rfl)
    clear eF18
    refine HL 9 v6 0 w19 ew19 _ _ (Nat.le_of_eq eCE.symm) (Nat.le_of_eq eSE.symm) H locs hS hF h_x0 h_x0r0 h_x0r0r0 h_x0r0r1 h_x0r0r2 ls (lv_sub hl [2, 3, 1, 0] rfl) (fun  H locs hS hF h_x0 h_x0r0 h_x0r0r0 h_x0r0r1 h_x0r0r2 ls hl => ?_)
    rw [eCE, eSE]
    refine lv_iconst (v := 1) hx hb dX0_isFilled_77 (by decide) ?_
    refine lv_istore (lv' := [(4, .int 1), (0, .ref x0), (2, .int o2), (3, .int (bI w19))]) hx hb dX0_isFilled_78 hl (by decide) rfl (fun ls hl => ?_)
    obtain ⟨F42, eF42, h⟩ := lt_step h
    obtain ⟨w43, ew43, h⟩ := bind_step h
    obtain ⟨CE, eCE⟩ : ∃ x : Nat, x = 180 + 144 := ⟨_, rfl⟩
    obtain ⟨SE, eSE⟩ : ∃ x : Nat, x = 2313 + 1566 := ⟨_, rfl⟩
    have hCE : CE ≤ R_X0_isFilled.cells := (by rw [eCE]; exact Nat.le_of_ble_eq_true rfl)
    have hSE : SE ≤ R_X0_isFilled.slots := (by rw [eSE]; exact Nat.le_of_ble_eq_true rfl)
    have HL : ∀ (n : Nat) (v29 : Bool) (v30 : Int32) (w43 : Bool) (hk0 : lp n (fun x => F42 x.1 x.2) (v29, v30) = some w43) (cl : Nat) (sl : Nat) (hcl : cl + 16 * n ≤ CE) (hsl : sl + 174 * n ≤ SE) (H : Heap) (locs : List Loc) (hS : St D s H locs) (hF : Off (fun a => a = x0r0 ∨ a = x0r0r1) s.heap H) (h_x0 : OA D 1 x0 [.ref x0r0] H) (h_x0r0 : ON D 0 x0r0 [.ref x0r0r0, .ref x0r0r1, .ref x0r0r2, .int x0r0f3, .int v5, .int x0r0f5, .int x0r0f6] H) (h_x0r0r0 : aD D x0r0r0 8 x0r0r0c H) (h_x0r0r1 : aD D x0r0r1 8 f4 H) (h_x0r0r2 : aZ D x0r0r2 8 x0r0r2c H) (ls : Array Slot) (hl : lv_has ls 5 [(0, .ref x0), (2, .int o2), (3, .int (bI v29)), (4, .int v30)]) (K134 : ∀ (H : Heap) (locs : List Loc) (hS : St D s H locs) (hF : Off (fun a => a = x0r0 ∨ a = x0r0r1) s.heap H) (h_x0 : OA D 1 x0 [.ref x0r0] H) (h_x0r0 : ON D 0 x0r0 [.ref x0r0r0, .ref x0r0r1, .ref x0r0r2, .int x0r0f3, .int v5, .int x0r0f5, .int x0r0f6] H) (h_x0r0r0 : aD D x0r0r0 8 x0r0r0c H) (h_x0r0r1 : aD D x0r0r1 8 f4 H) (h_x0r0r2 : aZ D x0r0r2 8 x0r0r2c H) (ls : Array Slot) (hl : lv_has ls 5 [(3, .int (bI w43))]), W p l e R_X0_isFilled s m A below meth c H locs CE SE Q (F0 m 134 ls [])), W p l e R_X0_isFilled s m A below meth c H locs cl sl Q (F0 m 80 ls []) := by
      intro n
      induction n with
      | zero => intro v29 v30 w43 hk0 cl sl hcl hsl H locs hS hF h_x0 h_x0r0 h_x0r0r0 h_x0r0r1 h_x0r0r2 ls hl K134; exact lp_zero hk0
      | succ n ih =>
        intro v29 v30 w43 hk0 cl sl hcl hsl H locs hS hF h_x0 h_x0r0 h_x0r0r0 h_x0r0r1 h_x0r0r2 ls hl K134
        obtain ⟨z44, hz, hk⟩ := lp_step hk0
        have h := (congrFun (congrFun (eF42) v29) v30).symm.trans hz
        have hcO : cl + 16 ≤ CE := al_out hcl
        have hcE : cl + 16 ≤ R_X0_isFilled.cells := Nat.le_trans hcO hCE
        have hcN : ∀ a, a ≤ 16 → cl + a + 16 * n ≤ CE := fun a ha => al_next hcl ha
        have hcN0 : cl + 16 * n ≤ CE := al_next hcl (Nat.zero_le _)
        have hsO : sl + 174 ≤ SE := al_out hsl
        have hsE : sl + 174 ≤ R_X0_isFilled.slots := Nat.le_trans hsO hSE
        have hsN : ∀ a, a ≤ 174 → sl + a + 174 * n ≤ SE := fun a ha => al_next hsl ha
        have hsN0 : sl + 174 * n ≤ SE := al_next hsl (Nat.zero_le _)
        clear hcl hsl
        refine lv_iload hx hb dX0_isFilled_80 (lv_at hl 3 rfl) ?_
        refine lv_bipush (v := 8) hx hb dX0_isFilled_82 (by decide) ?_
        refine lv_icmp_ge (tgt := 134) hx hb dX0_isFilled_84 (by decide) (fun c45 => ?_) (fun c45 => ?_)
        · have h := it_pos h c45
          obtain rfl := Option.some.inj h
          obtain rfl := id hk
          refine W.widen (k := CE) (n := SE) (by omega) (by omega) ?_
          exact K134 H locs hS hF h_x0 h_x0r0 h_x0r0r0 h_x0r0r1 h_x0r0r2 ls (lv_sub hl [2] rfl)
        · have h := it_neg h c45
          refine lv_iload_n hx hb dX0_isFilled_87 rfl (lv_at hl 2 rfl) ?_
          obtain ⟨K47, eK47, h⟩ := lt_step h
          have HK47 : ∀ (v46 : Bool) (h : K47 v46 = some z44) (H : Heap) (locs : List Loc) (hS : St D s H locs) (hF : Off (fun a => a = x0r0 ∨ a = x0r0r1) s.heap H) (h_x0 : OA D 1 x0 [.ref x0r0] H) (h_x0r0 : ON D 0 x0r0 [.ref x0r0r0, .ref x0r0r1, .ref x0r0r2, .int x0r0f3, .int v5, .int x0r0f5, .int x0r0f6] H) (h_x0r0r0 : aD D x0r0r0 8 x0r0r0c H) (h_x0r0r1 : aD D x0r0r1 8 f4 H) (h_x0r0r2 : aZ D x0r0r2 8 x0r0r2c H) (ls : Array Slot) (hl : lv_has ls 5 [(0, .ref x0), (2, .int o2), (4, .int v30)]), W p l e R_X0_isFilled s m A below meth c H locs (cl + 16) (sl + 174) Q (F0 m 127 ls [.int (bI v46)]) := by
            intro v46 h H locs hS hF h_x0 h_x0r0 h_x0r0r0 h_x0r0r1 h_x0r0r2 ls hl
            subst eK47
            refine lv_istore_n (lv' := [(3, .int (bI v46)), (0, .ref x0), (2, .int o2), (4, .int v30)]) hx hb dX0_isFilled_127 rfl hl (by decide) rfl (fun ls hl => ?_)
            obtain ⟨v48, ev48, h⟩ := lti_step h
            refine lv_iinc (v := v48) (lv' := [(4, .int v48), (3, .int (bI v46)), (0, .ref x0), (2, .int o2)]) hx hb dX0_isFilled_128 hl (k := 3) rfl (by rw [ev48]; rfl) (by decide) rfl (fun ls hl => ?_)
            refine lv_goto (tgt := 80) hx hb dX0_isFilled_131 (by decide) ?_
            obtain rfl := Option.some.inj h
            exact ih v46 v48 w43 hk _ _ (hcN 16 (Nat.le_of_ble_eq_true rfl)) (hsN 174 (Nat.le_of_ble_eq_true rfl)) H locs hS hF h_x0 h_x0r0 h_x0r0r0 h_x0r0r1 h_x0r0r2 ls (lv_sub hl [2, 3, 1, 0] rfl) K134
          clear eK47
          obtain ⟨K49, eK49, h⟩ := lt_step h
          have HK49 : ∀  (h : K49 () = some z44) (H : Heap) (locs : List Loc) (hS : St D s H locs) (hF : Off (fun a => a = x0r0 ∨ a = x0r0r1) s.heap H) (h_x0 : OA D 1 x0 [.ref x0r0] H) (h_x0r0 : ON D 0 x0r0 [.ref x0r0r0, .ref x0r0r1, .ref x0r0r2, .int x0r0f3, .int v5, .int x0r0f5, .int x0r0f6] H) (h_x0r0r0 : aD D x0r0r0 8 x0r0r0c H) (h_x0r0r1 : aD D x0r0r1 8 f4 H) (h_x0r0r2 : aZ D x0r0r2 8 x0r0r2c H) (ls : Array Slot) (hl : lv_has ls 5 [(0, .ref x0), (2, .int o2), (4, .int v30)]), W p l e R_X0_isFilled s m A below meth c H locs (cl + 16) (sl + 174) Q (F0 m 126 ls []) := by
            intro h H locs hS hF h_x0 h_x0r0 h_x0r0r0 h_x0r0r1 h_x0r0r2 ls hl
            subst eK49
            refine lv_iconst (v := 0) hx hb dX0_isFilled_126 (by decide) ?_
            exact HK47 false h H locs hS hF h_x0 h_x0r0 h_x0r0r0 h_x0r0r1 h_x0r0r2 ls (lv_sub hl [0, 1, 2] rfl)
          clear eK49
          refine r_ifz_eq (tgt := 126) hx hb dX0_isFilled_88 (by decide) (fun c50 => ?_) (fun c50 => ?_)
          · have h := it_neg h (by rw [c50]; decide)
            refine W.widen (k := cl + 16) (n := sl + 174) (by omega) (by omega) ?_
            exact HK49  h H locs hS hF h_x0 h_x0r0 h_x0r0r0 h_x0r0r1 h_x0r0r2 ls (lv_sub hl [0, 1, 3] rfl)
          · have h := it_pos h (by rw [c50])
            refine lv_aload_n hx hb dX0_isFilled_91 rfl (lv_at hl 0 rfl) ?_
            refine r_get hx hb hts hown hS h_x0 rfl in_X0 0 (by decide) q936 rfl (v := .ref x0r0) rfl dX0_isFilled_92 ?_
            refine lv_iload_n hx hb dX0_isFilled_95 rfl (lv_at hl 1 rfl) ?_
            refine lv_iload hx hb dX0_isFilled_96 (lv_at hl 3 rfl) ?_
            refine lv_iconst (v := 1) hx hb dX0_isFilled_98 (by decide) ?_
            obtain ⟨v51, ev51, h⟩ := lti_step h
            refine r_isub hx hb ev51 dX0_isFilled_99 ?_
            refine lv_iload hx hb dX0_isFilled_100 (lv_at hl 3 rfl) ?_
            obtain ⟨o52, eo52, h⟩ := bind_step h
            refine r_ci (r_runV (rest := []) (As := [.int o2, .int v51, .int v30]) hC 3 (m_X1_order x0r0 x0r0r0 x0r0r1 x0r0r2  x0r0r0c f4 x0r0r2c x0r0f3 v5 x0r0f5 x0r0f6 o2 v51 v30 o52 eo52) q1576 q1577 q1578 q46 q1579 (OA.recv hS h_x0r0.OA (C := RX1) rfl) hd_X1_order rfl ⟨Nat.le_of_ble_eq_true rfl, Nat.le_of_ble_eq_true rfl⟩ hS ⟨h_x0r0, h_x0r0r0, h_x0r0r1, h_x0r0r2⟩ hl.1 rfl (Nat.le_of_ble_eq_true rfl) dX0_isFilled_102 ⟨by have := hcE; have := hsE; omega, by have := hcE; have := hsE; omega⟩) hS (fun b H locs hp hS hz => ?_)
            obtain ⟨eb_, hO⟩ := hp
            rw [eb_]
            have h_x0 := h_x0.ext hO
            have h_x0r0 := h_x0r0.ext hO
            have h_x0r0r0 := h_x0r0r0.ext hO
            have h_x0r0r1 := h_x0r0r1.ext hO
            have h_x0r0r2 := h_x0r0r2.ext hO
            have hF := hF.trans (hO.mono (fun _ _ z => z.elim))
            refine lv_aload_n hx hb dX0_isFilled_105 rfl (lv_at hl 0 rfl) ?_
            refine r_get hx hb hts hown hS h_x0 rfl in_X0 0 (by decide) q936 rfl (v := .ref x0r0) rfl dX0_isFilled_106 ?_
            refine lv_iload hx hb dX0_isFilled_109 (lv_at hl 3 rfl) ?_
            refine lv_iconst (v := 1) hx hb dX0_isFilled_111 (by decide) ?_
            obtain ⟨v53, ev53, h⟩ := lti_step h
            refine r_isub hx hb ev53 dX0_isFilled_112 ?_
            refine lv_iload hx hb dX0_isFilled_113 (lv_at hl 3 rfl) ?_
            refine lv_iconst (v := 0) hx hb dX0_isFilled_115 (by decide) ?_
            obtain ⟨o54, eo54, h⟩ := bind_step h
            refine r_ci (r_runV (rest := [.int o52]) (As := [.int v53, .int v30, .int 0]) hC 3 (m_X1_heightOrder x0r0 x0r0r0 x0r0r1 x0r0r2  x0r0r0c f4 x0r0r2c x0r0f3 v5 x0r0f5 x0r0f6 v53 v30 0 o54 eo54) q1604 q1288 q1289 q46 q1290 (OA.recv hS h_x0r0.OA (C := RX1) rfl) hd_X1_heightOrder rfl ⟨Nat.le_of_ble_eq_true rfl, Nat.le_of_ble_eq_true rfl⟩ hS ⟨h_x0r0, h_x0r0r0, h_x0r0r1, h_x0r0r2⟩ hl.1 rfl (Nat.le_of_ble_eq_true rfl) dX0_isFilled_116 ⟨by have := hcE; have := hsE; omega, by have := hcE; have := hsE; omega⟩) hS (fun b H locs hp hS hz => ?_)
            obtain ⟨eb_, hO⟩ := hp
            rw [eb_]
            have h_x0 := h_x0.ext hO
            have h_x0r0 := h_x0r0.ext hO
            have h_x0r0r0 := h_x0r0r0.ext hO
            have h_x0r0r1 := h_x0r0r1.ext hO
            have h_x0r0r2 := h_x0r0r2.ext hO
            have hF := hF.trans (hO.mono (fun _ _ z => z.elim))
            refine lv_icmp_ne (tgt := 126) hx hb dX0_isFilled_119 (by decide) (fun c55 => ?_) (fun c55 => ?_)
            · have h := it_neg h c55
              exact HK49  h H locs hS hF h_x0 h_x0r0 h_x0r0r0 h_x0r0r1 h_x0r0r2 ls (lv_sub hl [0, 1, 3] rfl)
            · have h := it_pos h c55
              refine lv_iconst (v := 1) hx hb dX0_isFilled_122 (by decide) ?_
              refine lv_goto (tgt := 127) hx hb dX0_isFilled_123 (by decide) ?_
              exact HK47 true h H locs hS hF h_x0 h_x0r0 h_x0r0r0 h_x0r0r1 h_x0r0r2 ls (lv_sub hl [0, 1, 3] rfl)
    clear eF42
    refine HL 9 w19 1 w43 ew43 _ _ (Nat.le_of_eq eCE.symm) (Nat.le_of_eq eSE.symm) H locs hS hF h_x0 h_x0r0 h_x0r0r0 h_x0r0r1 h_x0r0r2 ls (lv_sub hl [1, 2, 3, 0] rfl) (fun  H locs hS hF h_x0 h_x0r0 h_x0r0r0 h_x0r0r1 h_x0r0r2 ls hl => ?_)
    rw [eCE, eSE]
    refine lv_iload_n hx hb dX0_isFilled_134 rfl (lv_at hl 0 rfl) ?_
    obtain rfl := Option.some.inj h
    rw [eQ]
    exact r_zret hx hb hr hlk hS (narB _) (Nat.le_of_ble_eq_true rfl) (Nat.le_of_ble_eq_true rfl) dX0_isFilled_135 ⟨_, rfl, rfl, h_x0r0, h_x0r0r1, hF⟩
  clear eK7
  obtain ⟨K58, eK58, h⟩ := lt_step h
  have HK58 : ∀ (f56 : Nat → UInt64) (v57 : Int32) (h : K58 f56 v57 = some r) (H : Heap) (locs : List Loc) (hS : St D s H locs) (hF : Off (fun a => a = x0r0 ∨ a = x0r0r1) s.heap H) (h_x0 : OA D 1 x0 [.ref x0r0] H) (h_x0r0 : ON D 0 x0r0 [.ref x0r0r0, .ref x0r0r1, .ref x0r0r2, .int x0r0f3, .int v57, .int x0r0f5, .int x0r0f6] H) (h_x0r0r0 : aD D x0r0r0 8 x0r0r0c H) (h_x0r0r1 : aD D x0r0r1 8 f56 H) (h_x0r0r2 : aZ D x0r0r2 8 x0r0r2c H) (ls : Array Slot) (hl : lv_has ls 5 [(0, .ref x0), (2, .int o2)]), W p l e R_X0_isFilled s m A below meth c H locs 108 1530 Q (F0 m 34 ls []) := by
    intro f56 v57 h H locs hS hF h_x0 h_x0r0 h_x0r0r0 h_x0r0r1 h_x0r0r2 ls hl
    subst eK58
    refine lv_iconst (v := 0) hx hb dX0_isFilled_34 (by decide) ?_
    exact HK7 f56 v57 false h H locs hS hF h_x0 h_x0r0 h_x0r0r0 h_x0r0r1 h_x0r0r2 ls (lv_sub hl [0, 1] rfl)
  clear eK58
  refine lv_if_lt (tgt := 34) hx hb dX0_isFilled_16 (by decide) (fun c59 => ?_) (fun c59 => ?_)
  · have h := it_pos h c59
    refine W.widen (k := 108) (n := 1530) (Nat.le_of_ble_eq_true rfl) (Nat.le_of_ble_eq_true rfl) ?_
    exact HK58 o3.2.2 o3.2.1 h H locs hS hF h_x0 h_x0r0 h_x0r0r0 h_x0r0r1 h_x0r0r2 ls (lv_sub hl [1, 0] rfl)
  · have h := it_neg h c59
    refine lv_aload_n hx hb dX0_isFilled_19 rfl (lv_at hl 1 rfl) ?_
    refine r_get hx hb hts hown hS h_x0 rfl in_X0 0 (by decide) q936 rfl (v := .ref x0r0) rfl dX0_isFilled_20 ?_
    refine lv_iload_n hx hb dX0_isFilled_23 rfl (lv_at hl 0 rfl) ?_
    obtain ⟨o60, eo60, h⟩ := bind_step h
    refine r_ci (r_runV (rest := []) (As := [.int o2]) hC 1 (m_X1_fill x0r0 x0r0r0 x0r0r1 x0r0r2  x0r0r0c o3.2.2 x0r0r2c x0r0f3 o3.2.1 x0r0f5 x0r0f6 o2 o60 eo60) q1381 q1382 q1383 q46 q1384 (OA.recv hS h_x0r0.OA (C := RX1) rfl) hd_X1_fill rfl ⟨Nat.le_of_ble_eq_true rfl, Nat.le_of_ble_eq_true rfl⟩ hS ⟨h_x0r0, hB_h_x0r0, h_x0r0r0, h_x0r0r1, hB_h_x0r0r1, h_x0r0r2, ne_x0r0_x0r0r0, ne_x0r0_x0r0r1, ne_x0r0_x0r0r2, ne_x0r0r0_x0r0r1, ne_x0r0r1_x0r0r2⟩ hl.1 rfl (Nat.le_of_ble_eq_true rfl) dX0_isFilled_24 ⟨Nat.le_of_ble_eq_true rfl, Nat.le_of_ble_eq_true rfl⟩) hS (fun b H locs hp hS hz => ?_)
    obtain ⟨rfl, h_x0r0, h_x0r0r1, hO⟩ := hp
    have h_x0 := h_x0.off hO (fun z => by rcases z with z | z <;> first | exact ne_x0_x0r0 z | exact ne_x0_x0r0r1 z)
    have h_x0r0r0 := h_x0r0r0.off hO (fun z => by rcases z with z | z <;> first | exact (Ne.symm ne_x0r0_x0r0r0) z | exact ne_x0r0r0_x0r0r1 z)
    have h_x0r0r2 := h_x0r0r2.off hO (fun z => by rcases z with z | z <;> first | exact (Ne.symm ne_x0r0_x0r0r2) z | exact (Ne.symm ne_x0r0r1_x0r0r2) z)
    have hF := hF.fresh hO (fun a ha z => by
      rcases z with z | z
      · exact Or.inl z
      · exact Or.inr (z))
    refine lv_if_ne (tgt := 34) hx hb dX0_isFilled_27 (by decide) (fun c61 => ?_) (fun c61 => ?_)
    · have h := it_neg h c61
      exact HK58 o60.2.2 o60.2.1 h H locs hS hF h_x0 h_x0r0 h_x0r0r0 h_x0r0r1 h_x0r0r2 ls (lv_sub hl [1, 0] rfl)
    · have h := it_pos h c61
      refine lv_iconst (v := 1) hx hb dX0_isFilled_30 (by decide) ?_
      refine lv_goto (tgt := 35) hx hb dX0_isFilled_31 (by decide) ?_
      exact HK7 o60.2.2 o60.2.1 true h H locs hS hF h_x0 h_x0r0 h_x0r0r0 h_x0r0r1 h_x0r0r2 ls (lv_sub hl [1, 0] rfl)

abbrev R_X0_sum : Room := { frames := 0, cells := 0, slots := 0, locals := 0 }
noncomputable def f_X0_sum (x0 : Int64) (x1 : Int64) : Option (Int64) :=
  ltl ((x0 * 31 : Int64)) fun v1 =>
  ltl ((v1 + x1 : Int64)) fun v2 =>
  some v2
theorem hd_X0_sum : Hd yX0_sum 2 := by unfold Hd; decide +kernel
set_option maxHeartbeats 4000000 in
set_option maxRecDepth 100000 in
theorem m_X0_sum {l : Launch} {D : DD}   (x0 : Int64) (x1 : Int64) (r : Int64) (h : f_X0_sum x0 x1 = some r) : MP l D yX0_sum cX0_sum 4 (some .long) 0 0 [.long x0, .long x1] NoPre (some (.long r)) := by
  refine MP.start (by decide +kernel) (Nat.le_of_ble_eq_true rfl) ?_
  intro p e s m below meth c ls hC hS hp hl
  obtain ⟨hx, hb, hr, hlk, hml, hown, hts, hnm⟩ := id hC
  have hl : lv_has ls 4 [(0, .long x0), (2, .long x1)] := hl
  unfold f_X0_sum at h
  have hS0 := hS
  obtain ⟨A, eA⟩ : ∃ A : Array Value, A = [.long x0, .long x1].toArray := ⟨_, rfl⟩
  rw [← eA] at hC hts ⊢
  obtain ⟨Q, eQ⟩ : ∃ Q : State → Prop, Q = MQ below (PQ (some (.long r))) A s 0 0 (fun _ => False) := ⟨_, rfl⟩
  show W p l e R_X0_sum s m A below meth c s.heap [] 0 0 _ _
  rw [← eQ]
  refine lv_lload_n hx hb dX0_sum_0 rfl (lv_at hl 0 rfl) ?_
  refine lv_ldc2 hx hb (v := 31) hown (hts _ q1767) dX0_sum_1 ?_
  obtain ⟨v1, ev1, h⟩ := ltl_step h
  refine r_lmul hx hb ev1 dX0_sum_4 ?_
  refine lv_lload_n hx hb dX0_sum_5 rfl (lv_at hl 1 rfl) ?_
  obtain ⟨v2, ev2, h⟩ := ltl_step h
  refine r_ladd hx hb ev2 dX0_sum_6 ?_
  obtain rfl := Option.some.inj h
  rw [eQ]
  exact p_lret hx hb hr hlk dX0_sum_7 rfl

abbrev R_X0_isIn : Room := { frames := 1, cells := 0, slots := 0, locals := 21 }
noncomputable def f_X0_isIn (x0 : Int64) : Option (Bool) :=
  Option.bind (f_X0_size x0) fun o1 =>
  lti (lg_cmp o1 32768) fun v2 =>
  lt (fun (v3 : Bool) =>
  lt (fun (v5 : Bool) (v6 : Int32) =>
  (show Option (Sum (Bool × Int32) (Bool)) from (
  (if 48 ≤ v6 then
    some (.inr v5)
  else
    lt (fun (v30 : Bool) =>
    lti (v6 + 1) fun v32 =>
    some (.inl (v30, v32))
    ) fun K31 =>
    lt (fun (_u : Unit) =>
    K31 true
    ) fun K33 =>
    (if v5 = true then
      K33 ()
    else
      ltl ((1 : Int64) <<< ((v6 : Int32).toInt64 &&& 63)) fun v35 =>
      ask (!((v35 : Int64) == 0)) <|
      ltl (o1 - o1 / v35 * v35) fun v37 =>
      lti (lg_cmp v37 0) fun v38 =>
      lt (fun (_u : Unit) =>
      K31 false
      ) fun K39 =>
      (if v38 = 0 then
        ltl ((o1 : Int64) >>> ((v6 : Int32).toInt64 &&& 63)) fun v41 =>
        lti (lg_cmp v41 32) fun v42 =>
        (if v42 ≤ 0 then
          K39 ()
        else
          ltl ((o1 : Int64) >>> ((v6 : Int32).toInt64 &&& 63)) fun v44 =>
          lti (lg_cmp v44 65) fun v45 =>
          (if 0 ≤ v45 then
            K39 ()
          else
            K33 ()
          )
        )
      else
        K39 ()
      )
    )
  )
  ))
  ) fun F26 =>
  Option.bind (lp 38 (fun x => F26 x.1 x.2) (v3, 11)) fun w27 =>
  some w27
  ) fun K4 =>
  (if 0 < v2 then
    K4 false
  else
    K4 true
  )
theorem hd_X0_isIn : Hd yX0_isIn 1 := by unfold Hd; decide +kernel
set_option maxHeartbeats 4000000 in
set_option maxRecDepth 100000 in
theorem m_X0_isIn {l : Launch} {D : DD}   (x0 : Int64) (r : Bool) (h : f_X0_isIn x0 = some r) : MP l D yX0_isIn cX0_isIn 6 (some .boolean) 1 21 [.long x0] NoPre (some (.int (bI r))) := by
  refine MP.start (by decide +kernel) (Nat.le_of_ble_eq_true rfl) ?_
  intro p e s m below meth c ls hC hS hp hl
  obtain ⟨hx, hb, hr, hlk, hml, hown, hts, hnm⟩ := id hC
  have hl : lv_has ls 6 [(0, .long x0)] := hl
  unfold f_X0_isIn at h
  have hS0 := hS
  obtain ⟨A, eA⟩ : ∃ A : Array Value, A = [.long x0].toArray := ⟨_, rfl⟩
  rw [← eA] at hC hts ⊢
  obtain ⟨Q, eQ⟩ : ∃ Q : State → Prop, Q = MQ below (PQ (some (.int (bI r)))) A s 0 0 (fun _ => False) := ⟨_, rfl⟩
  show W p l e R_X0_isIn s m A below meth c s.heap [] 0 0 _ _
  rw [← eQ]
  refine lv_lload_n hx hb dX0_isIn_0 rfl (lv_at hl 0 rfl) ?_
  obtain ⟨o1, eo1, h⟩ := bind_step h
  refine r_cp (r_runS (rest := []) (As := [.long x0]) hC 1 (m_X0_size   x0 o1 eo1) q1522 q1523 q39 q1524 hd_X0_size rfl ⟨Nat.le_of_ble_eq_true rfl, Nat.le_of_ble_eq_true rfl⟩ hS trivial hl.1 rfl (Nat.le_of_ble_eq_true rfl) dX0_isIn_1 ⟨Nat.le_of_ble_eq_true rfl, Nat.le_of_ble_eq_true rfl⟩) ?_
  refine lv_lstore_n (lv' := [(2, .long o1), (0, .long x0)]) hx hb dX0_isIn_4 rfl hl (by decide) rfl (fun ls hl => ?_)
  refine lv_lload_n hx hb dX0_isIn_5 rfl (lv_at hl 0 rfl) ?_
  refine lv_ldc2 hx hb (v := 32768) hown (hts _ q1525) dX0_isIn_6 ?_
  obtain ⟨v2, ev2, h⟩ := lti_step h
  refine r_lcmp hx hb ev2 dX0_isIn_9 ?_
  obtain ⟨K4, eK4, h⟩ := lt_step h
  have HK4 : ∀ (v3 : Bool) (h : K4 v3 = some r)  (ls : Array Slot) (hl : lv_has ls 6 [(2, .long o1)]), W p l e R_X0_isIn s m A below meth c s.heap [] 0 0 Q (F0 m 18 ls [.int (bI v3)]) := by
    intro v3 h  ls hl
    subst eK4
    refine lv_istore (lv' := [(4, .int (bI v3)), (2, .long o1)]) hx hb dX0_isIn_18 hl (by decide) rfl (fun ls hl => ?_)
    refine lv_bipush (v := 11) hx hb dX0_isIn_20 (by decide) ?_
    refine lv_istore (lv' := [(5, .int 11), (4, .int (bI v3)), (2, .long o1)]) hx hb dX0_isIn_22 hl (by decide) rfl (fun ls hl => ?_)
    obtain ⟨F26, eF26, h⟩ := lt_step h
    obtain ⟨w27, ew27, h⟩ := bind_step h
    have HL : ∀ (n : Nat) (v5 : Bool) (v6 : Int32) (w27 : Bool) (hk0 : lp n (fun x => F26 x.1 x.2) (v5, v6) = some w27)   (ls : Array Slot) (hl : lv_has ls 6 [(2, .long o1), (4, .int (bI v5)), (5, .int v6)]) (K82 : ∀  (ls : Array Slot) (hl : lv_has ls 6 [(4, .int (bI w27))]), W p l e R_X0_isIn s m A below meth c s.heap [] 0 0 Q (F0 m 82 ls [])), W p l e R_X0_isIn s m A below meth c s.heap [] 0 0 Q (F0 m 24 ls []) := by
      intro n
      induction n with
      | zero => intro v5 v6 w27 hk0   ls hl K82; exact lp_zero hk0
      | succ n ih =>
        intro v5 v6 w27 hk0   ls hl K82
        obtain ⟨z28, hz, hk⟩ := lp_step hk0
        have h := (congrFun (congrFun (eF26) v5) v6).symm.trans hz
        refine lv_iload hx hb dX0_isIn_24 (lv_at hl 2 rfl) ?_
        refine lv_bipush (v := 48) hx hb dX0_isIn_26 (by decide) ?_
        refine lv_icmp_ge (tgt := 82) hx hb dX0_isIn_28 (by decide) (fun c29 => ?_) (fun c29 => ?_)
        · have h := it_pos h c29
          obtain rfl := Option.some.inj h
          obtain rfl := id hk
          exact K82  ls (lv_sub hl [1] rfl)
        · have h := it_neg h c29
          refine lv_iload hx hb dX0_isIn_31 (lv_at hl 1 rfl) ?_
          obtain ⟨K31, eK31, h⟩ := lt_step h
          have HK31 : ∀ (v30 : Bool) (h : K31 v30 = some z28)  (ls : Array Slot) (hl : lv_has ls 6 [(2, .long o1), (5, .int v6)]), W p l e R_X0_isIn s m A below meth c s.heap [] 0 0 Q (F0 m 74 ls [.int (bI v30)]) := by
            intro v30 h  ls hl
            subst eK31
            refine lv_istore (lv' := [(4, .int (bI v30)), (2, .long o1), (5, .int v6)]) hx hb dX0_isIn_74 hl (by decide) rfl (fun ls hl => ?_)
            obtain ⟨v32, ev32, h⟩ := lti_step h
            refine lv_iinc (v := v32) (lv' := [(5, .int v32), (4, .int (bI v30)), (2, .long o1)]) hx hb dX0_isIn_76 hl (k := 2) rfl (by rw [ev32]; rfl) (by decide) rfl (fun ls hl => ?_)
            refine lv_goto (tgt := 24) hx hb dX0_isIn_79 (by decide) ?_
            obtain rfl := Option.some.inj h
            exact ih v30 v32 w27 hk   ls (lv_sub hl [2, 1, 0] rfl) K82
          clear eK31
          obtain ⟨K33, eK33, h⟩ := lt_step h
          have HK33 : ∀  (h : K33 () = some z28)  (ls : Array Slot) (hl : lv_has ls 6 [(2, .long o1), (5, .int v6)]), W p l e R_X0_isIn s m A below meth c s.heap [] 0 0 Q (F0 m 69 ls []) := by
            intro h  ls hl
            subst eK33
            refine lv_iconst (v := 1) hx hb dX0_isIn_69 (by decide) ?_
            refine lv_goto (tgt := 74) hx hb dX0_isIn_70 (by decide) ?_
            exact HK31 true h  ls (lv_sub hl [0, 1] rfl)
          clear eK33
          refine r_ifz_ne (tgt := 69) hx hb dX0_isIn_33 (by decide) (fun c34 => ?_) (fun c34 => ?_)
          · have h := it_pos h (by rw [c34])
            exact HK33  h  ls (lv_sub hl [0, 2] rfl)
          · have h := it_neg h (by rw [c34]; decide)
            refine lv_lload_n hx hb dX0_isIn_36 rfl (lv_at hl 0 rfl) ?_
            refine lv_lconst (v := 1) hx hb dX0_isIn_37 rfl ?_
            refine lv_iload hx hb dX0_isIn_38 (lv_at hl 2 rfl) ?_
            obtain ⟨v35, ev35, h⟩ := ltl_step h
            refine r_lshl hx hb ev35 dX0_isIn_40 ?_
            obtain ⟨b36, h⟩ := ask_step h
            obtain ⟨v37, ev37, h⟩ := ltl_step h
            refine r_lrem hx hb ev37 (ask_neL b36) dX0_isIn_41 ?_
            refine lv_lconst (v := 0) hx hb dX0_isIn_42 rfl ?_
            obtain ⟨v38, ev38, h⟩ := lti_step h
            refine r_lcmp hx hb ev38 dX0_isIn_43 ?_
            obtain ⟨K39, eK39, h⟩ := lt_step h
            have HK39 : ∀  (h : K39 () = some z28)  (ls : Array Slot) (hl : lv_has ls 6 [(2, .long o1), (5, .int v6)]), W p l e R_X0_isIn s m A below meth c s.heap [] 0 0 Q (F0 m 73 ls []) := by
              intro h  ls hl
              subst eK39
              refine lv_iconst (v := 0) hx hb dX0_isIn_73 (by decide) ?_
              exact HK31 false h  ls (lv_sub hl [0, 1] rfl)
            clear eK39
            refine lv_if_ne (tgt := 73) hx hb dX0_isIn_44 (by decide) (fun c40 => ?_) (fun c40 => ?_)
            · have h := it_neg h c40
              exact HK39  h  ls (lv_sub hl [0, 2] rfl)
            · have h := it_pos h c40
              refine lv_lload_n hx hb dX0_isIn_47 rfl (lv_at hl 0 rfl) ?_
              refine lv_iload hx hb dX0_isIn_48 (lv_at hl 2 rfl) ?_
              obtain ⟨v41, ev41, h⟩ := ltl_step h
              refine r_lshr hx hb ev41 dX0_isIn_50 ?_
              refine lv_ldc2 hx hb (v := 32) hown (hts _ q1526) dX0_isIn_51 ?_
              obtain ⟨v42, ev42, h⟩ := lti_step h
              refine r_lcmp hx hb ev42 dX0_isIn_54 ?_
              refine lv_if_le (tgt := 73) hx hb dX0_isIn_55 (by decide) (fun c43 => ?_) (fun c43 => ?_)
              · have h := it_pos h c43
                exact HK39  h  ls (lv_sub hl [0, 2] rfl)
              · have h := it_neg h c43
                refine lv_lload_n hx hb dX0_isIn_58 rfl (lv_at hl 0 rfl) ?_
                refine lv_iload hx hb dX0_isIn_59 (lv_at hl 2 rfl) ?_
                obtain ⟨v44, ev44, h⟩ := ltl_step h
                refine r_lshr hx hb ev44 dX0_isIn_61 ?_
                refine lv_ldc2 hx hb (v := 65) hown (hts _ q1527) dX0_isIn_62 ?_
                obtain ⟨v45, ev45, h⟩ := lti_step h
                refine r_lcmp hx hb ev45 dX0_isIn_65 ?_
                refine lv_if_ge (tgt := 73) hx hb dX0_isIn_66 (by decide) (fun c46 => ?_) (fun c46 => ?_)
                · have h := it_pos h c46
                  exact HK39  h  ls (lv_sub hl [0, 2] rfl)
                · have h := it_neg h c46
                  exact HK33  h  ls (lv_sub hl [0, 2] rfl)
    clear eF26
    refine HL 38 v3 11 w27 ew27   ls (lv_sub hl [2, 1, 0] rfl) (fun   ls hl => ?_)
    refine lv_iload hx hb dX0_isIn_82 (lv_at hl 0 rfl) ?_
    obtain rfl := Option.some.inj h
    rw [eQ]
    exact p_zret hx hb hr hlk (narB _) dX0_isIn_84 rfl
  clear eK4
  refine lv_if_gt (tgt := 17) hx hb dX0_isIn_10 (by decide) (fun c47 => ?_) (fun c47 => ?_)
  · have h := it_pos h c47
    refine lv_iconst (v := 0) hx hb dX0_isIn_17 (by decide) ?_
    exact HK4 false h  ls (lv_sub hl [0] rfl)
  · have h := it_neg h c47
    refine lv_iconst (v := 1) hx hb dX0_isIn_13 (by decide) ?_
    refine lv_goto (tgt := 18) hx hb dX0_isIn_14 (by decide) ?_
    exact HK4 true h  ls (lv_sub hl [0] rfl)

