/-! isOut, the constructor, holds, told; by tools/gen40.py -/
abbrev R_X0_isOut : Room := { frames := 13, cells := 1462, slots := 10468, locals := 1505 }
noncomputable def f_X0_isOut (x0r0r0c : Nat → UInt64) (x0r0r1c : Nat → UInt64) (x0r0r2c : Nat → Int32) (x0r0f3 : Int32) (x0r0f4 : Int32) (x0r0f5 : Int32) (x0r0f6 : Int32) : Option (Bool) :=
  lt (va_up (fun _ => 0) 0 1) fun f2 =>
  lt (va_up f2 1 2) fun f3 =>
  lt (va_up f3 2 2) fun f4 =>
  lt (va_up f4 3 2) fun f5 =>
  lt (va_up f5 4 1) fun f6 =>
  lt (va_up f6 5 1) fun f7 =>
  lt (va_up f7 6 2) fun f8 =>
  lt (va_up f8 7 2) fun f9 =>
  lt (va_up f9 8 2) fun f10 =>
  lt (va_up f10 9 2) fun f11 =>
  lt (va_up f11 10 1) fun f12 =>
  lt (va_up f12 11 2) fun f13 =>
  Option.bind (f_X1_digest x0r0r0c x0r0r1c x0r0r2c x0r0f3 x0r0f4 x0r0f5 x0r0f6) fun o14 =>
  lt (fun (v15 : Bool) (v16 : Int32) =>
  (show Option (Sum (Bool × Int32) (Bool)) from (
  (if 12 ≤ v16 then
    some (.inr v15)
  else
    lt (fun (v32 : Bool) =>
    lti (v16 + 1) fun v34 =>
    some (.inl (v32, v34))
    ) fun K33 =>
    lt (fun (_u : Unit) =>
    K33 false
    ) fun K35 =>
    (if v15 = true then
      Option.bind (f_X0_out x0r0r0c x0r0r1c x0r0r2c x0r0f3 x0r0f4 x0r0f5 x0r0f6 v16) fun o37 =>
      gd 12 v16 fun i38 =>
      lti (f13 i38) fun v39 =>
      lti (1000 + v39) fun v40 =>
      (if o37 = v40 then
        K33 true
      else
        K35 ()
      )
    else
      K35 ()
    )
  )
  ))
  ) fun F28 =>
  Option.bind (lp 13 (fun x => F28 x.1 x.2) (true, 0)) fun w29 =>
  (if w29 = true then
    Option.bind (f_X1_digest x0r0r0c x0r0r1c x0r0r2c x0r0f3 x0r0f4 x0r0f5 x0r0f6) fun o43 =>
    lti (lg_cmp o43 o14) fun v44 =>
    (if v44 = 0 then
      some true
    else
      some false
    )
  else
    some false
  )
theorem hd_X0_isOut : Hd yX0_isOut 0 := by unfold Hd; decide +kernel
set_option maxHeartbeats 4000000 in
set_option maxRecDepth 100000 in
theorem m_X0_isOut {l : Launch} (hfl : l.stackTraces = false) {D : DD} (x0 : Nat) (x0r0 : Nat) (x0r0r0 : Nat) (x0r0r1 : Nat) (x0r0r2 : Nat)  (x0r0r0c : Nat → UInt64) (x0r0r1c : Nat → UInt64) (x0r0r2c : Nat → Int32) (x0r0f3 : Int32) (x0r0f4 : Int32) (x0r0f5 : Int32) (x0r0f6 : Int32) (r : Bool) (h : f_X0_isOut x0r0r0c x0r0r1c x0r0r2c x0r0f3 x0r0f4 x0r0f5 x0r0f6 = some r) : MT l D yX0_isOut cX0_isOut 6 (some .boolean) 13 1505 1462 10468 [.ref x0] (fun H => OA D 1 x0 [.ref x0r0] H ∧ ON D 0 x0r0 [.ref x0r0r0, .ref x0r0r1, .ref x0r0r2, .int x0r0f3, .int x0r0f4, .int x0r0f5, .int x0r0f6] H ∧ aD D x0r0r0 8 x0r0r0c H ∧ aD D x0r0r1 8 x0r0r1c H ∧ aZ D x0r0r2 8 x0r0r2c H) (pZ (fun H b H' => b = r ∧ Off (fun _ => False) H H')) := by
  refine MT.start (by decide +kernel) (Nat.le_of_ble_eq_true rfl) ?_
  intro p e s m below meth c ls hC hS hp hl
  obtain ⟨h_x0, h_x0r0, h_x0r0r0, h_x0r0r1, h_x0r0r2⟩ := hp
  obtain ⟨hx, hb, hr, hlk, hml, hown, hts, hnm⟩ := id hC
  have hl : lv_has ls 6 [(0, .ref x0)] := hl
  unfold f_X0_isOut at h
  have hS0 := hS
  obtain ⟨A, eA⟩ : ∃ A : Array Value, A = [.ref x0].toArray := ⟨_, rfl⟩
  rw [← eA] at hC hts ⊢
  obtain ⟨Q, eQ⟩ : ∃ Q : State → Prop, Q = MQ below (TQ D (pZ (fun H b H' => b = r ∧ Off (fun _ => False) H H'))) A s 1462 10468 (fun q => dB D ≤ q) := ⟨_, rfl⟩
  have hF : Off (fun _ => False) s.heap s.heap := Off.rf
  show W p l e R_X0_isOut s m A below meth c s.heap [] 0 0 _ _
  rw [← eQ]
  obtain ⟨H, eH⟩ : ∃ H : Heap, H = s.heap := ⟨_, rfl⟩
  obtain ⟨locs, eLc⟩ : ∃ L : List Loc, L = [] := ⟨_, rfl⟩
  have lt_h_x0 := h_x0.lt
  have lt_h_x0r0 := h_x0r0.lt
  have lt_h_x0r0r0 := h_x0r0r0.lt
  have lt_h_x0r0r1 := h_x0r0r1.lt
  have lt_h_x0r0r2 := h_x0r0r2.lt
  rw [← eH, ← eLc]
  have hF : Off (fun _ => False) s.heap H := by rw [eH]; exact hF
  rw [← eH] at h_x0
  rw [← eH] at h_x0r0
  rw [← eH] at h_x0r0r0
  rw [← eH] at h_x0r0r1
  rw [← eH] at h_x0r0r2
  have hS : St D s H locs := by rw [eH, eLc]; exact hS
  refine lv_bipush (v := 12) hx hb dX0_isOut_0 (by decide) ?_
  refine r_newa hx hb hts hS (ty := .int) rfl q453 12 rfl (by decide) (by decide) (Nat.le_of_ble_eq_true rfl) (Nat.le_of_ble_eq_true rfl) dX0_isOut_2 (fun ad1 H eq_ad1 hS hE had1 z_ad1 hB_had1 => ?_)
  have had1 : aI D ad1 12 (fun _ => 0) H := had1
  have gad1 : s.heap.size ≤ ad1 := by have := hF.1; omega
  have ne_h_x0_had1 : x0 ≠ ad1 := by have := h_x0.lt; omega
  have h_x0 := h_x0.ext hE
  have ne_h_x0r0_had1 : x0r0 ≠ ad1 := by have := h_x0r0.lt; omega
  have h_x0r0 := h_x0r0.ext hE
  have ne_h_x0r0r0_had1 : x0r0r0 ≠ ad1 := by have := h_x0r0r0.lt; omega
  have h_x0r0r0 := h_x0r0r0.ext hE
  have ne_h_x0r0r1_had1 : x0r0r1 ≠ ad1 := by have := h_x0r0r1.lt; omega
  have h_x0r0r1 := h_x0r0r1.ext hE
  have ne_h_x0r0r2_had1 : x0r0r2 ≠ ad1 := by have := h_x0r0r2.lt; omega
  have h_x0r0r2 := h_x0r0r2.ext hE
  have hF := hF.trans (hE.mono (fun _ _ z => z.elim))
  refine lv_dup hx hb dX0_isOut_4 rfl ?_
  refine lv_iconst (v := 0) hx hb dX0_isOut_5 (by decide) ?_
  refine lv_iconst (v := 1) hx hb dX0_isOut_6 (by decide) ?_
  obtain ⟨f2, ef2, h⟩ := lt_step h
  refine r_iast hx hb hS had1 hB_had1 0 ⟨rfl, by decide, by decide⟩ dX0_isOut_7 (fun H locs hS hO had1 => ?_)
  have had1 : aI D ad1 12 f2 H := by rw [ef2]; exact had1
  have h_x0 := h_x0.off hO ne_h_x0_had1
  have h_x0r0 := h_x0r0.off hO ne_h_x0r0_had1
  have h_x0r0r0 := h_x0r0r0.off hO ne_h_x0r0r0_had1
  have h_x0r0r1 := h_x0r0r1.off hO ne_h_x0r0r1_had1
  have h_x0r0r2 := h_x0r0r2.off hO ne_h_x0r0r2_had1
  have hF := hF.fresh hO (fun a ha z => absurd (z ▸ ha) (Nat.not_lt.mpr gad1))
  refine lv_dup hx hb dX0_isOut_8 rfl ?_
  refine lv_iconst (v := 1) hx hb dX0_isOut_9 (by decide) ?_
  refine lv_iconst (v := 2) hx hb dX0_isOut_10 (by decide) ?_
  obtain ⟨f3, ef3, h⟩ := lt_step h
  refine r_iast hx hb hS had1 hB_had1 1 ⟨rfl, by decide, by decide⟩ dX0_isOut_11 (fun H locs hS hO had1 => ?_)
  have had1 : aI D ad1 12 f3 H := by rw [ef3]; exact had1
  have h_x0 := h_x0.off hO ne_h_x0_had1
  have h_x0r0 := h_x0r0.off hO ne_h_x0r0_had1
  have h_x0r0r0 := h_x0r0r0.off hO ne_h_x0r0r0_had1
  have h_x0r0r1 := h_x0r0r1.off hO ne_h_x0r0r1_had1
  have h_x0r0r2 := h_x0r0r2.off hO ne_h_x0r0r2_had1
  have hF := hF.fresh hO (fun a ha z => absurd (z ▸ ha) (Nat.not_lt.mpr gad1))
  refine lv_dup hx hb dX0_isOut_12 rfl ?_
  refine lv_iconst (v := 2) hx hb dX0_isOut_13 (by decide) ?_
  refine lv_iconst (v := 2) hx hb dX0_isOut_14 (by decide) ?_
  obtain ⟨f4, ef4, h⟩ := lt_step h
  refine r_iast hx hb hS had1 hB_had1 2 ⟨rfl, by decide, by decide⟩ dX0_isOut_15 (fun H locs hS hO had1 => ?_)
  have had1 : aI D ad1 12 f4 H := by rw [ef4]; exact had1
  have h_x0 := h_x0.off hO ne_h_x0_had1
  have h_x0r0 := h_x0r0.off hO ne_h_x0r0_had1
  have h_x0r0r0 := h_x0r0r0.off hO ne_h_x0r0r0_had1
  have h_x0r0r1 := h_x0r0r1.off hO ne_h_x0r0r1_had1
  have h_x0r0r2 := h_x0r0r2.off hO ne_h_x0r0r2_had1
  have hF := hF.fresh hO (fun a ha z => absurd (z ▸ ha) (Nat.not_lt.mpr gad1))
  refine lv_dup hx hb dX0_isOut_16 rfl ?_
  refine lv_iconst (v := 3) hx hb dX0_isOut_17 (by decide) ?_
  refine lv_iconst (v := 2) hx hb dX0_isOut_18 (by decide) ?_
  obtain ⟨f5, ef5, h⟩ := lt_step h
  refine r_iast hx hb hS had1 hB_had1 3 ⟨rfl, by decide, by decide⟩ dX0_isOut_19 (fun H locs hS hO had1 => ?_)
  have had1 : aI D ad1 12 f5 H := by rw [ef5]; exact had1
  have h_x0 := h_x0.off hO ne_h_x0_had1
  have h_x0r0 := h_x0r0.off hO ne_h_x0r0_had1
  have h_x0r0r0 := h_x0r0r0.off hO ne_h_x0r0r0_had1
  have h_x0r0r1 := h_x0r0r1.off hO ne_h_x0r0r1_had1
  have h_x0r0r2 := h_x0r0r2.off hO ne_h_x0r0r2_had1
  have hF := hF.fresh hO (fun a ha z => absurd (z ▸ ha) (Nat.not_lt.mpr gad1))
  refine lv_dup hx hb dX0_isOut_20 rfl ?_
  refine lv_iconst (v := 4) hx hb dX0_isOut_21 (by decide) ?_
  refine lv_iconst (v := 1) hx hb dX0_isOut_22 (by decide) ?_
  obtain ⟨f6, ef6, h⟩ := lt_step h
  refine r_iast hx hb hS had1 hB_had1 4 ⟨rfl, by decide, by decide⟩ dX0_isOut_23 (fun H locs hS hO had1 => ?_)
  have had1 : aI D ad1 12 f6 H := by rw [ef6]; exact had1
  have h_x0 := h_x0.off hO ne_h_x0_had1
  have h_x0r0 := h_x0r0.off hO ne_h_x0r0_had1
  have h_x0r0r0 := h_x0r0r0.off hO ne_h_x0r0r0_had1
  have h_x0r0r1 := h_x0r0r1.off hO ne_h_x0r0r1_had1
  have h_x0r0r2 := h_x0r0r2.off hO ne_h_x0r0r2_had1
  have hF := hF.fresh hO (fun a ha z => absurd (z ▸ ha) (Nat.not_lt.mpr gad1))
  refine lv_dup hx hb dX0_isOut_24 rfl ?_
  refine lv_iconst (v := 5) hx hb dX0_isOut_25 (by decide) ?_
  refine lv_iconst (v := 1) hx hb dX0_isOut_26 (by decide) ?_
  obtain ⟨f7, ef7, h⟩ := lt_step h
  refine r_iast hx hb hS had1 hB_had1 5 ⟨rfl, by decide, by decide⟩ dX0_isOut_27 (fun H locs hS hO had1 => ?_)
  have had1 : aI D ad1 12 f7 H := by rw [ef7]; exact had1
  have h_x0 := h_x0.off hO ne_h_x0_had1
  have h_x0r0 := h_x0r0.off hO ne_h_x0r0_had1
  have h_x0r0r0 := h_x0r0r0.off hO ne_h_x0r0r0_had1
  have h_x0r0r1 := h_x0r0r1.off hO ne_h_x0r0r1_had1
  have h_x0r0r2 := h_x0r0r2.off hO ne_h_x0r0r2_had1
  have hF := hF.fresh hO (fun a ha z => absurd (z ▸ ha) (Nat.not_lt.mpr gad1))
  refine lv_dup hx hb dX0_isOut_28 rfl ?_
  refine lv_bipush (v := 6) hx hb dX0_isOut_29 (by decide) ?_
  refine lv_iconst (v := 2) hx hb dX0_isOut_31 (by decide) ?_
  obtain ⟨f8, ef8, h⟩ := lt_step h
  refine r_iast hx hb hS had1 hB_had1 6 ⟨rfl, by decide, by decide⟩ dX0_isOut_32 (fun H locs hS hO had1 => ?_)
  have had1 : aI D ad1 12 f8 H := by rw [ef8]; exact had1
  have h_x0 := h_x0.off hO ne_h_x0_had1
  have h_x0r0 := h_x0r0.off hO ne_h_x0r0_had1
  have h_x0r0r0 := h_x0r0r0.off hO ne_h_x0r0r0_had1
  have h_x0r0r1 := h_x0r0r1.off hO ne_h_x0r0r1_had1
  have h_x0r0r2 := h_x0r0r2.off hO ne_h_x0r0r2_had1
  have hF := hF.fresh hO (fun a ha z => absurd (z ▸ ha) (Nat.not_lt.mpr gad1))
  refine lv_dup hx hb dX0_isOut_33 rfl ?_
  refine lv_bipush (v := 7) hx hb dX0_isOut_34 (by decide) ?_
  refine lv_iconst (v := 2) hx hb dX0_isOut_36 (by decide) ?_
  obtain ⟨f9, ef9, h⟩ := lt_step h
  refine r_iast hx hb hS had1 hB_had1 7 ⟨rfl, by decide, by decide⟩ dX0_isOut_37 (fun H locs hS hO had1 => ?_)
  have had1 : aI D ad1 12 f9 H := by rw [ef9]; exact had1
  have h_x0 := h_x0.off hO ne_h_x0_had1
  have h_x0r0 := h_x0r0.off hO ne_h_x0r0_had1
  have h_x0r0r0 := h_x0r0r0.off hO ne_h_x0r0r0_had1
  have h_x0r0r1 := h_x0r0r1.off hO ne_h_x0r0r1_had1
  have h_x0r0r2 := h_x0r0r2.off hO ne_h_x0r0r2_had1
  have hF := hF.fresh hO (fun a ha z => absurd (z ▸ ha) (Nat.not_lt.mpr gad1))
  refine lv_dup hx hb dX0_isOut_38 rfl ?_
  refine lv_bipush (v := 8) hx hb dX0_isOut_39 (by decide) ?_
  refine lv_iconst (v := 2) hx hb dX0_isOut_41 (by decide) ?_
  obtain ⟨f10, ef10, h⟩ := lt_step h
  refine r_iast hx hb hS had1 hB_had1 8 ⟨rfl, by decide, by decide⟩ dX0_isOut_42 (fun H locs hS hO had1 => ?_)
  have had1 : aI D ad1 12 f10 H := by rw [ef10]; exact had1
  have h_x0 := h_x0.off hO ne_h_x0_had1
  have h_x0r0 := h_x0r0.off hO ne_h_x0r0_had1
  have h_x0r0r0 := h_x0r0r0.off hO ne_h_x0r0r0_had1
  have h_x0r0r1 := h_x0r0r1.off hO ne_h_x0r0r1_had1
  have h_x0r0r2 := h_x0r0r2.off hO ne_h_x0r0r2_had1
  have hF := hF.fresh hO (fun a ha z => absurd (z ▸ ha) (Nat.not_lt.mpr gad1))
  refine lv_dup hx hb dX0_isOut_43 rfl ?_
  refine lv_bipush (v := 9) hx hb dX0_isOut_44 (by decide) ?_
  refine lv_iconst (v := 2) hx hb dX0_isOut_46 (by decide) ?_
  obtain ⟨f11, ef11, h⟩ := lt_step h
  refine r_iast hx hb hS had1 hB_had1 9 ⟨rfl, by decide, by decide⟩ dX0_isOut_47 (fun H locs hS hO had1 => ?_)
  have had1 : aI D ad1 12 f11 H := by rw [ef11]; exact had1
  have h_x0 := h_x0.off hO ne_h_x0_had1
  have h_x0r0 := h_x0r0.off hO ne_h_x0r0_had1
  have h_x0r0r0 := h_x0r0r0.off hO ne_h_x0r0r0_had1
  have h_x0r0r1 := h_x0r0r1.off hO ne_h_x0r0r1_had1
  have h_x0r0r2 := h_x0r0r2.off hO ne_h_x0r0r2_had1
  have hF := hF.fresh hO (fun a ha z => absurd (z ▸ ha) (Nat.not_lt.mpr gad1))
  refine lv_dup hx hb dX0_isOut_48 rfl ?_
  refine lv_bipush (v := 10) hx hb dX0_isOut_49 (by decide) ?_
  refine lv_iconst (v := 1) hx hb dX0_isOut_51 (by decide) ?_
  obtain ⟨f12, ef12, h⟩ := lt_step h
  refine r_iast hx hb hS had1 hB_had1 10 ⟨rfl, by decide, by decide⟩ dX0_isOut_52 (fun H locs hS hO had1 => ?_)
  have had1 : aI D ad1 12 f12 H := by rw [ef12]; exact had1
  have h_x0 := h_x0.off hO ne_h_x0_had1
  have h_x0r0 := h_x0r0.off hO ne_h_x0r0_had1
  have h_x0r0r0 := h_x0r0r0.off hO ne_h_x0r0r0_had1
  have h_x0r0r1 := h_x0r0r1.off hO ne_h_x0r0r1_had1
  have h_x0r0r2 := h_x0r0r2.off hO ne_h_x0r0r2_had1
  have hF := hF.fresh hO (fun a ha z => absurd (z ▸ ha) (Nat.not_lt.mpr gad1))
  refine lv_dup hx hb dX0_isOut_53 rfl ?_
  refine lv_bipush (v := 11) hx hb dX0_isOut_54 (by decide) ?_
  refine lv_iconst (v := 2) hx hb dX0_isOut_56 (by decide) ?_
  obtain ⟨f13, ef13, h⟩ := lt_step h
  refine r_iast hx hb hS had1 hB_had1 11 ⟨rfl, by decide, by decide⟩ dX0_isOut_57 (fun H locs hS hO had1 => ?_)
  have had1 : aI D ad1 12 f13 H := by rw [ef13]; exact had1
  have h_x0 := h_x0.off hO ne_h_x0_had1
  have h_x0r0 := h_x0r0.off hO ne_h_x0r0_had1
  have h_x0r0r0 := h_x0r0r0.off hO ne_h_x0r0r0_had1
  have h_x0r0r1 := h_x0r0r1.off hO ne_h_x0r0r1_had1
  have h_x0r0r2 := h_x0r0r2.off hO ne_h_x0r0r2_had1
  have hF := hF.fresh hO (fun a ha z => absurd (z ▸ ha) (Nat.not_lt.mpr gad1))
  refine lv_astore_n (lv' := [(1, .ref ad1), (0, .ref x0)]) hx hb dX0_isOut_58 rfl hl (by decide) rfl (fun ls hl => ?_)
  refine lv_aload_n hx hb dX0_isOut_59 rfl (lv_at hl 1 rfl) ?_
  refine r_get hx hb hts hown hS h_x0 rfl in_X0 0 (by decide) q936 rfl (v := .ref x0r0) rfl dX0_isOut_60 ?_
  obtain ⟨o14, eo14, h⟩ := bind_step h
  refine r_cl (r_runV (rest := []) (As := []) hC 0 (m_X1_digest x0r0 x0r0r0 x0r0r1 x0r0r2  x0r0r0c x0r0r1c x0r0r2c x0r0f3 x0r0f4 x0r0f5 x0r0f6 o14 eo14) q1256 q1257 q1258 q46 q1259 (OA.recv hS h_x0r0.OA (C := RX1) rfl) hd_X1_digest rfl ⟨Nat.le_of_ble_eq_true rfl, Nat.le_of_ble_eq_true rfl⟩ hS ⟨h_x0r0, h_x0r0r0, h_x0r0r1, h_x0r0r2⟩ hl.1 rfl (Nat.le_of_ble_eq_true rfl) dX0_isOut_63 ⟨Nat.le_of_ble_eq_true rfl, Nat.le_of_ble_eq_true rfl⟩) hS (fun b H locs hp hS hz => ?_)
  obtain ⟨eb_, hO⟩ := hp
  rw [eb_]
  have h_x0 := h_x0.ext hO
  have h_x0r0 := h_x0r0.ext hO
  have h_x0r0r0 := h_x0r0r0.ext hO
  have h_x0r0r1 := h_x0r0r1.ext hO
  have h_x0r0r2 := h_x0r0r2.ext hO
  have had1 := had1.ext hO
  have hF := hF.trans (hO.mono (fun _ _ z => z.elim))
  refine lv_lstore_n (lv' := [(2, .long o14), (1, .ref ad1), (0, .ref x0)]) hx hb dX0_isOut_66 rfl hl (by decide) rfl (fun ls hl => ?_)
  refine lv_iconst (v := 1) hx hb dX0_isOut_67 (by decide) ?_
  refine lv_istore (lv' := [(4, .int 1), (2, .long o14), (1, .ref ad1), (0, .ref x0)]) hx hb dX0_isOut_68 hl (by decide) rfl (fun ls hl => ?_)
  refine lv_iconst (v := 0) hx hb dX0_isOut_70 (by decide) ?_
  refine lv_istore (lv' := [(5, .int 0), (4, .int 1), (2, .long o14), (1, .ref ad1), (0, .ref x0)]) hx hb dX0_isOut_71 hl (by decide) rfl (fun ls hl => ?_)
  obtain ⟨F28, eF28, h⟩ := lt_step h
  obtain ⟨w29, ew29, h⟩ := bind_step h
  obtain ⟨CE, eCE⟩ : ∃ x : Nat, x = 725 + 13 := ⟨_, rfl⟩
  obtain ⟨SE, eSE⟩ : ∃ x : Nat, x = 5201 + 78 := ⟨_, rfl⟩
  have hCE : CE ≤ R_X0_isOut.cells := (by rw [eCE]; exact Nat.le_of_ble_eq_true rfl)
  have hSE : SE ≤ R_X0_isOut.slots := (by rw [eSE]; exact Nat.le_of_ble_eq_true rfl)
  have HL : ∀ (n : Nat) (v15 : Bool) (v16 : Int32) (w29 : Bool) (hk0 : lp n (fun x => F28 x.1 x.2) (v15, v16) = some w29) (cl : Nat) (sl : Nat) (hcl : cl + 1 * n ≤ CE) (hsl : sl + 6 * n ≤ SE) (H : Heap) (locs : List Loc) (hS : St D s H locs) (hF : Off (fun _ => False) s.heap H) (h_x0 : OA D 1 x0 [.ref x0r0] H) (h_x0r0 : ON D 0 x0r0 [.ref x0r0r0, .ref x0r0r1, .ref x0r0r2, .int x0r0f3, .int x0r0f4, .int x0r0f5, .int x0r0f6] H) (h_x0r0r0 : aD D x0r0r0 8 x0r0r0c H) (h_x0r0r1 : aD D x0r0r1 8 x0r0r1c H) (h_x0r0r2 : aZ D x0r0r2 8 x0r0r2c H) (had1 : aI D ad1 12 f13 H) (ls : Array Slot) (hl : lv_has ls 6 [(0, .ref x0), (1, .ref ad1), (2, .long o14), (4, .int (bI v15)), (5, .int v16)]) (K115 : ∀ (H : Heap) (locs : List Loc) (hS : St D s H locs) (hF : Off (fun _ => False) s.heap H) (h_x0 : OA D 1 x0 [.ref x0r0] H) (h_x0r0 : ON D 0 x0r0 [.ref x0r0r0, .ref x0r0r1, .ref x0r0r2, .int x0r0f3, .int x0r0f4, .int x0r0f5, .int x0r0f6] H) (h_x0r0r0 : aD D x0r0r0 8 x0r0r0c H) (h_x0r0r1 : aD D x0r0r1 8 x0r0r1c H) (h_x0r0r2 : aZ D x0r0r2 8 x0r0r2c H) (ls : Array Slot) (hl : lv_has ls 6 [(0, .ref x0), (2, .long o14), (4, .int (bI w29))]), W p l e R_X0_isOut s m A below meth c H locs CE SE Q (F0 m 115 ls [])), W p l e R_X0_isOut s m A below meth c H locs cl sl Q (F0 m 73 ls []) := by
    intro n
    induction n with
    | zero => intro v15 v16 w29 hk0 cl sl hcl hsl H locs hS hF h_x0 h_x0r0 h_x0r0r0 h_x0r0r1 h_x0r0r2 had1 ls hl K115; exact lp_zero hk0
    | succ n ih =>
      intro v15 v16 w29 hk0 cl sl hcl hsl H locs hS hF h_x0 h_x0r0 h_x0r0r0 h_x0r0r1 h_x0r0r2 had1 ls hl K115
      obtain ⟨z30, hz, hk⟩ := lp_step hk0
      have h := (congrFun (congrFun (eF28) v15) v16).symm.trans hz
      have hcO : cl + 1 ≤ CE := al_out hcl
      have hcE : cl + 1 ≤ R_X0_isOut.cells := Nat.le_trans hcO hCE
      have hcN : ∀ a, a ≤ 1 → cl + a + 1 * n ≤ CE := fun a ha => al_next hcl ha
      have hcN0 : cl + 1 * n ≤ CE := al_next hcl (Nat.zero_le _)
      have hsO : sl + 6 ≤ SE := al_out hsl
      have hsE : sl + 6 ≤ R_X0_isOut.slots := Nat.le_trans hsO hSE
      have hsN : ∀ a, a ≤ 6 → sl + a + 6 * n ≤ SE := fun a ha => al_next hsl ha
      have hsN0 : sl + 6 * n ≤ SE := al_next hsl (Nat.zero_le _)
      clear hcl hsl
      refine lv_iload hx hb dX0_isOut_73 (lv_at hl 4 rfl) ?_
      refine lv_bipush (v := 12) hx hb dX0_isOut_75 (by decide) ?_
      refine lv_icmp_ge (tgt := 115) hx hb dX0_isOut_77 (by decide) (fun c31 => ?_) (fun c31 => ?_)
      · have h := it_pos h c31
        obtain rfl := Option.some.inj h
        obtain rfl := id hk
        refine W.widen (k := CE) (n := SE) (by omega) (by omega) ?_
        exact K115 H locs hS hF h_x0 h_x0r0 h_x0r0r0 h_x0r0r1 h_x0r0r2 ls (lv_sub hl [0, 2, 3] rfl)
      · have h := it_neg h c31
        refine lv_iload hx hb dX0_isOut_80 (lv_at hl 3 rfl) ?_
        obtain ⟨K33, eK33, h⟩ := lt_step h
        have HK33 : ∀ (v32 : Bool) (h : K33 v32 = some z30) (H : Heap) (locs : List Loc) (hS : St D s H locs) (hF : Off (fun _ => False) s.heap H) (h_x0 : OA D 1 x0 [.ref x0r0] H) (h_x0r0 : ON D 0 x0r0 [.ref x0r0r0, .ref x0r0r1, .ref x0r0r2, .int x0r0f3, .int x0r0f4, .int x0r0f5, .int x0r0f6] H) (h_x0r0r0 : aD D x0r0r0 8 x0r0r0c H) (h_x0r0r1 : aD D x0r0r1 8 x0r0r1c H) (h_x0r0r2 : aZ D x0r0r2 8 x0r0r2c H) (had1 : aI D ad1 12 f13 H) (ls : Array Slot) (hl : lv_has ls 6 [(0, .ref x0), (1, .ref ad1), (2, .long o14), (5, .int v16)]), W p l e R_X0_isOut s m A below meth c H locs (cl + 1) (sl + 6) Q (F0 m 107 ls [.int (bI v32)]) := by
          intro v32 h H locs hS hF h_x0 h_x0r0 h_x0r0r0 h_x0r0r1 h_x0r0r2 had1 ls hl
          subst eK33
          refine lv_istore (lv' := [(4, .int (bI v32)), (0, .ref x0), (1, .ref ad1), (2, .long o14), (5, .int v16)]) hx hb dX0_isOut_107 hl (by decide) rfl (fun ls hl => ?_)
          obtain ⟨v34, ev34, h⟩ := lti_step h
          refine lv_iinc (v := v34) (lv' := [(5, .int v34), (4, .int (bI v32)), (0, .ref x0), (1, .ref ad1), (2, .long o14)]) hx hb dX0_isOut_109 hl (k := 4) rfl (by rw [ev34]; rfl) (by decide) rfl (fun ls hl => ?_)
          refine lv_goto (tgt := 73) hx hb dX0_isOut_112 (by decide) ?_
          obtain rfl := Option.some.inj h
          exact ih v32 v34 w29 hk _ _ (hcN 1 (Nat.le_of_ble_eq_true rfl)) (hsN 6 (Nat.le_of_ble_eq_true rfl)) H locs hS hF h_x0 h_x0r0 h_x0r0r0 h_x0r0r1 h_x0r0r2 had1 ls (lv_sub hl [2, 3, 4, 1, 0] rfl) K115
        clear eK33
        obtain ⟨K35, eK35, h⟩ := lt_step h
        have HK35 : ∀  (h : K35 () = some z30) (H : Heap) (locs : List Loc) (hS : St D s H locs) (hF : Off (fun _ => False) s.heap H) (h_x0 : OA D 1 x0 [.ref x0r0] H) (h_x0r0 : ON D 0 x0r0 [.ref x0r0r0, .ref x0r0r1, .ref x0r0r2, .int x0r0f3, .int x0r0f4, .int x0r0f5, .int x0r0f6] H) (h_x0r0r0 : aD D x0r0r0 8 x0r0r0c H) (h_x0r0r1 : aD D x0r0r1 8 x0r0r1c H) (h_x0r0r2 : aZ D x0r0r2 8 x0r0r2c H) (had1 : aI D ad1 12 f13 H) (ls : Array Slot) (hl : lv_has ls 6 [(0, .ref x0), (1, .ref ad1), (2, .long o14), (5, .int v16)]), W p l e R_X0_isOut s m A below meth c H locs (cl + 1) (sl + 6) Q (F0 m 106 ls []) := by
          intro h H locs hS hF h_x0 h_x0r0 h_x0r0r0 h_x0r0r1 h_x0r0r2 had1 ls hl
          subst eK35
          refine lv_iconst (v := 0) hx hb dX0_isOut_106 (by decide) ?_
          exact HK33 false h H locs hS hF h_x0 h_x0r0 h_x0r0r0 h_x0r0r1 h_x0r0r2 had1 ls (lv_sub hl [0, 1, 2, 3] rfl)
        clear eK35
        refine r_ifz_eq (tgt := 106) hx hb dX0_isOut_82 (by decide) (fun c36 => ?_) (fun c36 => ?_)
        · have h := it_neg h (by rw [c36]; decide)
          refine W.widen (k := cl + 1) (n := sl + 6) (by omega) (by omega) ?_
          exact HK35  h H locs hS hF h_x0 h_x0r0 h_x0r0r0 h_x0r0r1 h_x0r0r2 had1 ls (lv_sub hl [0, 1, 2, 4] rfl)
        · have h := it_pos h (by rw [c36])
          refine lv_aload_n hx hb dX0_isOut_85 rfl (lv_at hl 0 rfl) ?_
          refine lv_iload hx hb dX0_isOut_86 (lv_at hl 4 rfl) ?_
          obtain ⟨o37, eo37, h⟩ := bind_step h
          refine r_ci (r_runVW (rest := []) (As := [.int v16]) hC 1 (m_X0_out hfl x0 x0r0 x0r0r0 x0r0r1 x0r0r2  x0r0r0c x0r0r1c x0r0r2c x0r0f3 x0r0f4 x0r0f5 x0r0f6 v16 o37 eo37) q1339 q1341 qs20 q39 q1342 (OA.recv hS h_x0 (C := RX0) rfl) hd_X0_out rfl ⟨Nat.le_of_ble_eq_true rfl, Nat.le_of_ble_eq_true rfl⟩ hS ⟨h_x0, h_x0r0, h_x0r0r0, h_x0r0r1, h_x0r0r2⟩ hl.1 rfl (Nat.le_of_ble_eq_true rfl) dX0_isOut_88 ⟨by have := hcE; have := hsE; omega, by have := hcE; have := hsE; omega⟩) hS (fun b H locs hp hS hz => ?_)
          obtain ⟨eb_, hO⟩ := hp
          rw [eb_]
          have h_x0 := h_x0.ext hO
          have h_x0r0 := h_x0r0.ext hO
          have h_x0r0r0 := h_x0r0r0.ext hO
          have h_x0r0r1 := h_x0r0r1.ext hO
          have h_x0r0r2 := h_x0r0r2.ext hO
          have had1 := had1.ext hO
          have hF := hF.trans (hO.mono (fun _ _ z => z.elim))
          refine lv_sipush (v := 1000) hx hb dX0_isOut_91 (by decide) ?_
          refine lv_aload_n hx hb dX0_isOut_94 rfl (lv_at hl 1 rfl) ?_
          refine lv_iload hx hb dX0_isOut_95 (lv_at hl 4 rfl) ?_
          obtain ⟨i38, xi38, h⟩ := gd_step (by decide) h
          refine r_iald hx hb hS had1 i38 xi38 dX0_isOut_97 ?_
          obtain ⟨v39, ev39, h⟩ := lti_step h
          refine r_nmI ev39 ?_
          obtain ⟨v40, ev40, h⟩ := lti_step h
          refine r_iadd hx hb ev40 dX0_isOut_98 ?_
          refine lv_icmp_ne (tgt := 106) hx hb dX0_isOut_99 (by decide) (fun c41 => ?_) (fun c41 => ?_)
          · have h := it_neg h c41
            exact HK35  h H locs hS hF h_x0 h_x0r0 h_x0r0r0 h_x0r0r1 h_x0r0r2 had1 ls (lv_sub hl [0, 1, 2, 4] rfl)
          · have h := it_pos h c41
            refine lv_iconst (v := 1) hx hb dX0_isOut_102 (by decide) ?_
            refine lv_goto (tgt := 107) hx hb dX0_isOut_103 (by decide) ?_
            exact HK33 true h H locs hS hF h_x0 h_x0r0 h_x0r0r0 h_x0r0r1 h_x0r0r2 had1 ls (lv_sub hl [0, 1, 2, 4] rfl)
  clear eF28
  refine HL 13 true 0 w29 ew29 _ _ (Nat.le_of_eq eCE.symm) (Nat.le_of_eq eSE.symm) H locs hS hF h_x0 h_x0r0 h_x0r0r0 h_x0r0r1 h_x0r0r2 had1 ls (lv_sub hl [4, 3, 2, 1, 0] rfl) (fun  H locs hS hF h_x0 h_x0r0 h_x0r0r0 h_x0r0r1 h_x0r0r2 ls hl => ?_)
  rw [eCE, eSE]
  refine lv_iload hx hb dX0_isOut_115 (lv_at hl 2 rfl) ?_
  refine r_ifz_eq (tgt := 136) hx hb dX0_isOut_117 (by decide) (fun c42 => ?_) (fun c42 => ?_)
  · have h := it_neg h (by rw [c42]; decide)
    refine lv_iconst (v := 0) hx hb dX0_isOut_136 (by decide) ?_
    obtain rfl := Option.some.inj h
    rw [eQ]
    exact r_zret hx hb hr hlk hS (by decide) (Nat.le_of_ble_eq_true rfl) (Nat.le_of_ble_eq_true rfl) dX0_isOut_137 ⟨_, rfl, rfl, hF⟩
  · have h := it_pos h (by rw [c42])
    refine lv_aload_n hx hb dX0_isOut_120 rfl (lv_at hl 0 rfl) ?_
    refine r_get hx hb hts hown hS h_x0 rfl in_X0 0 (by decide) q936 rfl (v := .ref x0r0) rfl dX0_isOut_121 ?_
    obtain ⟨o43, eo43, h⟩ := bind_step h
    refine r_cl (r_runV (rest := []) (As := []) hC 0 (m_X1_digest x0r0 x0r0r0 x0r0r1 x0r0r2  x0r0r0c x0r0r1c x0r0r2c x0r0f3 x0r0f4 x0r0f5 x0r0f6 o43 eo43) q1256 q1257 q1258 q46 q1259 (OA.recv hS h_x0r0.OA (C := RX1) rfl) hd_X1_digest rfl ⟨Nat.le_of_ble_eq_true rfl, Nat.le_of_ble_eq_true rfl⟩ hS ⟨h_x0r0, h_x0r0r0, h_x0r0r1, h_x0r0r2⟩ hl.1 rfl (Nat.le_of_ble_eq_true rfl) dX0_isOut_124 ⟨Nat.le_of_ble_eq_true rfl, Nat.le_of_ble_eq_true rfl⟩) hS (fun b H locs hp hS hz => ?_)
    obtain ⟨eb_, hO⟩ := hp
    rw [eb_]
    have h_x0 := h_x0.ext hO
    have h_x0r0 := h_x0r0.ext hO
    have h_x0r0r0 := h_x0r0r0.ext hO
    have h_x0r0r1 := h_x0r0r1.ext hO
    have h_x0r0r2 := h_x0r0r2.ext hO
    have hF := hF.trans (hO.mono (fun _ _ z => z.elim))
    refine lv_lload_n hx hb dX0_isOut_127 rfl (lv_at hl 1 rfl) ?_
    obtain ⟨v44, ev44, h⟩ := lti_step h
    refine r_lcmp hx hb ev44 dX0_isOut_128 ?_
    refine lv_if_ne (tgt := 136) hx hb dX0_isOut_129 (by decide) (fun c45 => ?_) (fun c45 => ?_)
    · have h := it_neg h c45
      refine lv_iconst (v := 0) hx hb dX0_isOut_136 (by decide) ?_
      obtain rfl := Option.some.inj h
      rw [eQ]
      exact r_zret hx hb hr hlk hS (by decide) (Nat.le_of_ble_eq_true rfl) (Nat.le_of_ble_eq_true rfl) dX0_isOut_137 ⟨_, rfl, rfl, hF⟩
    · have h := it_pos h c45
      refine lv_iconst (v := 1) hx hb dX0_isOut_132 (by decide) ?_
      refine lv_goto (tgt := 137) hx hb dX0_isOut_133 (by decide) ?_
      obtain rfl := Option.some.inj h
      rw [eQ]
      exact r_zret hx hb hr hlk hS (by decide) (Nat.le_of_ble_eq_true rfl) (Nat.le_of_ble_eq_true rfl) dX0_isOut_137 ⟨_, rfl, rfl, hF⟩

abbrev R_X0_init : Room := { frames := 12, cells := 272, slots := 2645, locals := 1491 }
noncomputable def f_X0_init (_u : Unit) : Option ((Nat → UInt64) × (Nat → UInt64) × (Nat → Int32)) :=
  Option.bind (f_X1_init ()) fun o2 =>
  some (o2.1, o2.2.1, o2.2.2)
theorem hd_X0_init : Hd yX0_init 0 := by unfold Hd; decide +kernel
set_option maxHeartbeats 4000000 in
set_option maxRecDepth 100000 in
theorem m_X0_init {l : Launch} {D : DD} (x0 : Nat)   (r : (Nat → UInt64) × (Nat → UInt64) × (Nat → Int32)) (h : f_X0_init () = some r) : MT l D yX0_init cX0_init 1 none 12 1491 272 2645 [.ref x0] (fun H => ON D 1 x0 [.null] H ∧ dB D ≤ x0) (pV (fun H H' => ∃ mx0_0 mx0_0_0 mx0_0_1 mx0_0_2 : Nat, ON D 1 x0 [.ref mx0_0] H' ∧ ON D 0 mx0_0 [.ref mx0_0_0, .ref mx0_0_1, .ref mx0_0_2, .int 0, .int 0, .int 0, .int 0] H' ∧ aD D mx0_0_0 8 r.1 H' ∧ H.size ≤ mx0_0_0 ∧ aD D mx0_0_1 8 r.2.1 H' ∧ H.size ≤ mx0_0_1 ∧ aZ D mx0_0_2 8 r.2.2 H' ∧ H.size ≤ mx0_0_2 ∧ H.size ≤ mx0_0 ∧ mx0_0 ≠ mx0_0_0 ∧ mx0_0 ≠ mx0_0_1 ∧ mx0_0 ≠ mx0_0_2 ∧ mx0_0_0 ≠ mx0_0_1 ∧ mx0_0_0 ≠ mx0_0_2 ∧ mx0_0_0 ≠ mx0_0 ∧ mx0_0_1 ≠ mx0_0_2 ∧ mx0_0_1 ≠ mx0_0 ∧ mx0_0_2 ≠ mx0_0 ∧ Off (fun a => a = x0) H H')) := by
  refine MT.start (by decide +kernel) (Nat.le_of_ble_eq_true rfl) ?_
  intro p e s m below meth c ls hC hS hp hl
  obtain ⟨h_x0, hB_h_x0⟩ := hp
  obtain ⟨hx, hb, hr, hlk, hml, hown, hts, hnm⟩ := id hC
  have hl : lv_has ls 1 [(0, .ref x0)] := hl
  unfold f_X0_init at h
  have hS0 := hS
  obtain ⟨A, eA⟩ : ∃ A : Array Value, A = [.ref x0].toArray := ⟨_, rfl⟩
  rw [← eA] at hC hts ⊢
  obtain ⟨Q, eQ⟩ : ∃ Q : State → Prop, Q = MQ below (TQ D (pV (fun H H' => ∃ mx0_0 mx0_0_0 mx0_0_1 mx0_0_2 : Nat, ON D 1 x0 [.ref mx0_0] H' ∧ ON D 0 mx0_0 [.ref mx0_0_0, .ref mx0_0_1, .ref mx0_0_2, .int 0, .int 0, .int 0, .int 0] H' ∧ aD D mx0_0_0 8 r.1 H' ∧ H.size ≤ mx0_0_0 ∧ aD D mx0_0_1 8 r.2.1 H' ∧ H.size ≤ mx0_0_1 ∧ aZ D mx0_0_2 8 r.2.2 H' ∧ H.size ≤ mx0_0_2 ∧ H.size ≤ mx0_0 ∧ mx0_0 ≠ mx0_0_0 ∧ mx0_0 ≠ mx0_0_1 ∧ mx0_0 ≠ mx0_0_2 ∧ mx0_0_0 ≠ mx0_0_1 ∧ mx0_0_0 ≠ mx0_0_2 ∧ mx0_0_0 ≠ mx0_0 ∧ mx0_0_1 ≠ mx0_0_2 ∧ mx0_0_1 ≠ mx0_0 ∧ mx0_0_2 ≠ mx0_0 ∧ Off (fun a => a = x0) H H'))) A s 272 2645 (fun q => dB D ≤ q) := ⟨_, rfl⟩
  have hF : Off (fun a => a = x0) s.heap s.heap := Off.rf
  show W p l e R_X0_init s m A below meth c s.heap [] 0 0 _ _
  rw [← eQ]
  obtain ⟨H, eH⟩ : ∃ H : Heap, H = s.heap := ⟨_, rfl⟩
  obtain ⟨locs, eLc⟩ : ∃ L : List Loc, L = [] := ⟨_, rfl⟩
  have lt_h_x0 := h_x0.lt
  rw [← eH, ← eLc]
  have hF : Off (fun a => a = x0) s.heap H := by rw [eH]; exact hF
  rw [← eH] at h_x0
  have hS : St D s H locs := by rw [eH, eLc]; exact hS
  refine lv_aload_n hx hb dX0_init_0 rfl (lv_at hl 0 rfl) ?_
  refine r_oinit hC q163 q95 q96 hl.1 dX0_init_1 ⟨Nat.le_of_ble_eq_true rfl, Nat.le_of_ble_eq_true rfl⟩ ?_
  refine lv_aload_n hx hb dX0_init_4 rfl (lv_at hl 0 rfl) ?_
  refine r_new (k := 0) hx hb hts hown hS rfl in_X1 tyX1 tyX1_ok q164 q165 q46 (fs := [.null, .null, .null, .int 0, .int 0, .int 0, .int 0]) rfl (by decide) (Nat.le_of_ble_eq_true rfl) (Nat.le_of_ble_eq_true rfl) dX0_init_5 (fun ad1 H eq_ad1 hS hE had1 z_ad1 hB_had1 => ?_)
  have gad1 : s.heap.size ≤ ad1 := by have := hF.1; omega
  have ne_h_x0_had1 : x0 ≠ ad1 := by have := h_x0.lt; omega
  have h_x0 := h_x0.ext hE
  have hF := hF.trans (hE.mono (fun _ _ z => z.elim))
  refine lv_dup hx hb dX0_init_8 rfl ?_
  obtain ⟨o2, eo2, h⟩ := bind_step h
  have ltp_had1 := had1.lt
  refine r_cv (r_runI (rest := [.ref ad1, .ref x0]) (As := []) hC 0 (m_X1_init ad1   o2 eo2) q166 q167 q46 q168 rfl hd_X1_init rfl ⟨Nat.le_of_ble_eq_true rfl, Nat.le_of_ble_eq_true rfl⟩ hS ⟨had1, hB_had1⟩ hl.1 rfl (Nat.le_of_ble_eq_true rfl) dX0_init_9 ⟨Nat.le_of_ble_eq_true rfl, Nat.le_of_ble_eq_true rfl⟩) hS (fun H locs hp hS hz => ?_)
  obtain ⟨ad3, ad4, ad5, had1, had3, frad3, had4, frad4, had5, frad5, ne_ad3_ad4, ne_ad3_ad5, ne_ad4_ad5, hO⟩ := hp
  have ne_h_x0_had3 : x0 ≠ ad3 := Nat.ne_of_lt (Nat.lt_of_lt_of_le h_x0.lt frad3)
  have ne_had1_had3 : ad1 ≠ ad3 := Nat.ne_of_lt (Nat.lt_of_lt_of_le ltp_had1 frad3)
  have gad3 : s.heap.size ≤ ad3 := Nat.le_trans hF.1 frad3
  have hB_had3 : dB D ≤ ad3 := by have := hS0.1.2.2.1; omega
  have ne_h_x0_had4 : x0 ≠ ad4 := Nat.ne_of_lt (Nat.lt_of_lt_of_le h_x0.lt frad4)
  have ne_had1_had4 : ad1 ≠ ad4 := Nat.ne_of_lt (Nat.lt_of_lt_of_le ltp_had1 frad4)
  have gad4 : s.heap.size ≤ ad4 := Nat.le_trans hF.1 frad4
  have hB_had4 : dB D ≤ ad4 := by have := hS0.1.2.2.1; omega
  have ne_h_x0_had5 : x0 ≠ ad5 := Nat.ne_of_lt (Nat.lt_of_lt_of_le h_x0.lt frad5)
  have ne_had1_had5 : ad1 ≠ ad5 := Nat.ne_of_lt (Nat.lt_of_lt_of_le ltp_had1 frad5)
  have gad5 : s.heap.size ≤ ad5 := Nat.le_trans hF.1 frad5
  have hB_had5 : dB D ≤ ad5 := by have := hS0.1.2.2.1; omega
  have h_x0 := h_x0.off hO ne_h_x0_had1
  have hF := hF.fresh hO (fun a ha z => absurd (z ▸ ha) (Nat.not_lt.mpr gad1))
  refine r_putF hx hb hts hown hS h_x0 hB_h_x0 rfl in_X0 tyX0 tyX0_ok nmX0 0 (Nat.le_of_ble_eq_true rfl) rfl q936 rfl rfl hnm rfl (v := .ref ad1) rfl (by rfl) dX0_init_12 (fun H locs hS hO h_x0 => ?_)
  have h_x0 : ON D 1 x0 [.ref ad1] H := h_x0
  have had1 := had1.off hO (Ne.symm ne_h_x0_had1)
  have had3 := had3.off hO (Ne.symm ne_h_x0_had3)
  have had4 := had4.off hO (Ne.symm ne_h_x0_had4)
  have had5 := had5.off hO (Ne.symm ne_h_x0_had5)
  have hF := hF.fresh hO (fun a ha z => z)
  obtain rfl := Option.some.inj h
  rw [eQ]
  exact r_vret hx hb hr hlk hS (Nat.le_of_ble_eq_true rfl) (Nat.le_of_ble_eq_true rfl) dX0_init_15 ⟨rfl, ad1, ad3, ad4, ad5, h_x0, had1, had3, gad3, had4, gad4, had5, gad5, gad1, ne_had1_had3, ne_had1_had4, ne_had1_had5, ne_ad3_ad4, ne_ad3_ad5, (Ne.symm ne_had1_had3), ne_ad4_ad5, (Ne.symm ne_had1_had4), (Ne.symm ne_had1_had5), hF⟩

abbrev R_X0_holds : Room := { frames := 15, cells := 504812, slots := 4372113, locals := 1590 }
noncomputable def f_X0_holds (x0r0r0c : Nat → UInt64) (x0r0r1c : Nat → UInt64) (x0r0r2c : Nat → Int32) (x0r0f3 : Int32) (x0r0f4 : Int32) (x0r0f5 : Int32) (x0r0f6 : Int32) (x1n : Nat) (x1c : Nat → Int32) : Option (Bool × Int32 × Int32 × Int32 × Int32 × (Nat → UInt64) × (Nat → UInt64) × (Nat → Int32)) :=
  lt (fun (v1 : Int32) =>
  (show Option (Sum (Int32) (Sum (Bool × Int32 × Int32 × Int32 × Int32 × (Nat → UInt64) × (Nat → UInt64) × (Nat → Int32)) (Unit))) from (
  (if 8 ≤ v1 then
    some (.inr (.inr ()))
  else
    Option.bind (f_X0_its x0r0r0c x0r0r1c x0r0r2c x0r0f3 x0r0f4 x0r0f5 x0r0f6 v1) fun o21 =>
    lti (lg_cmp o21 0) fun v22 =>
    (if v22 = 0 then
      Option.bind (f_X1_angleUpper x0r0r0c x0r0r1c x0r0r2c x0r0f3 x0r0f4 x0r0f5 x0r0f6 v1) fun o24 =>
      (if o24 = 0 then
        Option.bind (f_X0_told_2 x0r0r0c x0r0r1c x0r0r2c x0r0f3 x0r0f4 x0r0f5 x0r0f6 v1) fun o26 =>
        lti (lg_cmp o26 0) fun v27 =>
        (if v27 = 0 then
          Option.bind (f_X1_upper x0r0r0c x0r0r1c x0r0r2c x0r0f3 x0r0f4 x0r0f5 x0r0f6 v1) fun o29 =>
          (if o29 = 0 then
            Option.bind (f_X0_some v1 4) fun o31 =>
            Option.bind (f_X1_house x0r0r0c x0r0r1c x0r0r2c x0r0f3 x0r0f4 x0r0f5 x0r0f6 o31) fun o32 =>
            (if o32 = 0 then
              lti (v1 + 1) fun v34 =>
              some (.inl v34)
            else
              some (.inr (.inl (false, x0r0f3, x0r0f4, x0r0f5, x0r0f6, x0r0r0c, x0r0r1c, x0r0r2c)))
            )
          else
            some (.inr (.inl (false, x0r0f3, x0r0f4, x0r0f5, x0r0f6, x0r0r0c, x0r0r1c, x0r0r2c)))
          )
        else
          some (.inr (.inl (false, x0r0f3, x0r0f4, x0r0f5, x0r0f6, x0r0r0c, x0r0r1c, x0r0r2c)))
        )
      else
        some (.inr (.inl (false, x0r0f3, x0r0f4, x0r0f5, x0r0f6, x0r0r0c, x0r0r1c, x0r0r2c)))
      )
    else
      some (.inr (.inl (false, x0r0f3, x0r0f4, x0r0f5, x0r0f6, x0r0r0c, x0r0r1c, x0r0r2c)))
    )
  )
  ))
  ) fun F17 =>
  Option.bind (lp 9 (fun x => F17 x) 0) fun w18 =>
  (match w18 with
  | .inl rt => (
  some rt
  )
  | .inr u36 => (
  Option.bind (f_X0_isOut x0r0r0c x0r0r1c x0r0r2c x0r0f3 x0r0f4 x0r0f5 x0r0f6) fun o37 =>
  (if o37 = true then
    Option.bind (f_X0_areKnown x0r0r0c x0r0r1c x0r0r2c x0r0f3 x0r0f4 x0r0f5 x0r0f6) fun o39 =>
    (if o39.1 = true then
      lt (fun (f41 : Nat → UInt64) (f42 : Nat → UInt64) (f43 : Nat → Int32) (v44 : Int32) (v45 : Int32) (v46 : Int32) (v47 : Int32) (v48 : Int32) =>
      (show Option (Sum ((Nat → UInt64) × (Nat → UInt64) × (Nat → Int32) × Int32 × Int32 × Int32 × Int32 × Int32) (Bool × Int32 × Int32 × Int32 × Int32 × (Nat → UInt64) × (Nat → UInt64) × (Nat → Int32))) from (
      (if 16 ≤ v48 then
        some (.inr (true, v44, v45, v46, v47, f41, f42, f43))
      else
        Option.bind (f_X0_cell x1n x1c v48) fun o288 =>
        lti (v48 + 1) fun v289 =>
        Option.bind (f_X0_cell x1n x1c v289) fun o290 =>
        lti (v48 + 2) fun v291 =>
        Option.bind (f_X0_cell x1n x1c v291) fun o292 =>
        lti (v48 + 3) fun v293 =>
        Option.bind (f_X0_cell x1n x1c v293) fun o294 =>
        lti (v48 / 4) fun v295 =>
        lti (o290 >>> (7 &&& 31)) fun v296 =>
        lti (o288 ^^^ v296) fun v297 =>
        lti (o292 >>> (11 &&& 31)) fun v298 =>
        lti (v297 ^^^ v298) fun v299 =>
        lti (o294 >>> (13 &&& 31)) fun v300 =>
        lti (v299 ^^^ v300) fun v301 =>
        Option.bind (f_X0_some v301 6) fun o302 =>
        lti (v295 + o302) fun v303 =>
        lti (v303 - v303 / 6 * 6) fun v304 =>
        lt (fun (f305 : Nat → UInt64) (f306 : Nat → Int32) (v307 : Int32) (v308 : Int32) =>
        lt (fun (f310 : Nat → UInt64) (f311 : Nat → Int32) (v312 : Int32) =>
        lt (fun (f314 : Nat → UInt64) (f315 : Nat → UInt64) (f316 : Nat → Int32) (v317 : Int32) (v318 : Int32) (v319 : Int32) =>
        lt (fun (f321 : Nat → UInt64) (f322 : Nat → UInt64) (f323 : Nat → Int32) (v324 : Int32) (v325 : Int32) (v326 : Int32) =>
        lt (fun (f328 : Nat → UInt64) (f329 : Nat → UInt64) (f330 : Nat → Int32) (v331 : Int32) (v332 : Int32) (v333 : Int32) =>
        lt (fun (f335 : Nat → UInt64) (f336 : Nat → UInt64) (f337 : Nat → Int32) (v338 : Int32) (v339 : Int32) =>
        lt (fun (f341 : Nat → UInt64) (v342 : Int32) =>
        lt (fun (v344 : Int32) =>
        lti (v48 + 4) fun v346 =>
        some (.inl (f335, f341, f337, v338, v342, v333, v344, v346))
        ) fun K345 =>
        (if v48 = 12 then
          Option.bind (f_X0_isSummed f335 f341 f337 v338 v342 v333 v47) fun o348 =>
          (if o348.1 = true then
            Option.bind (f_X0_isOut f335 f341 f337 v338 v342 v333 o348.2) fun o350 =>
            (if o350 = true then
              K345 o348.2
            else
              some (.inr (false, v338, v342, v333, o348.2, f335, f341, f337))
            )
          else
            some (.inr (false, v338, v342, v333, o348.2, f335, f341, f337))
          )
        else
          K345 v47
        )
        ) fun K343 =>
        (if v304 = 5 then
          Option.bind (f_X0_areOrdered f335 f336 f337 v338 v339 v333 v47 o290) fun o353 =>
          (if o353.1 = true then
            K343 o353.2.2 o353.2.1
          else
            some (.inr (false, v338, o353.2.1, v333, v47, f335, o353.2.2, f337))
          )
        else
          K343 f336 v339
        )
        ) fun K340 =>
        (if v304 = 4 then
          Option.bind (f_X0_isSorted f328 f329 f330 v331 v332 v333 v47) fun o356 =>
          (if o356.1 = true then
            Option.bind (f_X0_areRows o356.2.2.1 f329 o356.2.2.2 o356.2.1 v332 v333 v47 o292 o294) fun o358 =>
            (if o358.1 = true then
              K340 o358.2.2.2.1 o358.2.2.2.2.1 o358.2.2.2.2.2 o358.2.1 o358.2.2.1
            else
              some (.inr (false, o358.2.1, o358.2.2.1, v333, v47, o358.2.2.2.1, o358.2.2.2.2.1, o358.2.2.2.2.2))
            )
          else
            some (.inr (false, o356.2.1, v332, v333, v47, o356.2.2.1, f329, o356.2.2.2))
          )
        else
          K340 f328 f329 f330 v331 v332
        )
        ) fun K334 =>
        (if v304 = 3 then
          Option.bind (f_X0_areSums f321 f322 f323 v324 v325 v326 v47 2 3) fun o361 =>
          (if o361.1 = true then
            Option.bind (f_X0_areSums o361.2.2.2.2.1 o361.2.2.2.2.2.1 o361.2.2.2.2.2.2 o361.2.1 o361.2.2.1 o361.2.2.2.1 v47 3 4) fun o363 =>
            (if o363.1 = true then
              K334 o363.2.2.2.2.1 o363.2.2.2.2.2.1 o363.2.2.2.2.2.2 o363.2.1 o363.2.2.1 o363.2.2.2.1
            else
              some (.inr (false, o363.2.1, o363.2.2.1, o363.2.2.2.1, v47, o363.2.2.2.2.1, o363.2.2.2.2.2.1, o363.2.2.2.2.2.2))
            )
          else
            some (.inr (false, o361.2.1, o361.2.2.1, o361.2.2.2.1, v47, o361.2.2.2.2.1, o361.2.2.2.2.2.1, o361.2.2.2.2.2.2))
          )
        else
          K334 f321 f322 f323 v324 v325 v326
        )
        ) fun K327 =>
        (if v304 = 2 then
          Option.bind (f_X0_areAnswers f314 f315 f316 v317 v318 v319 v47 4 o290) fun o366 =>
          (if o366.1 = true then
            K327 o366.2.2.2.2.1 o366.2.2.2.2.2.1 o366.2.2.2.2.2.2 o366.2.1 o366.2.2.1 o366.2.2.2.1
          else
            some (.inr (false, o366.2.1, o366.2.2.1, o366.2.2.2.1, v47, o366.2.2.2.2.1, o366.2.2.2.2.2.1, o366.2.2.2.2.2.2))
          )
        else
          K327 f314 f315 f316 v317 v318 v319
        )
        ) fun K320 =>
        (if v304 = 1 then
          Option.bind (f_X0_areAnswers f310 f42 f311 v312 v45 v308 v47 2 o288) fun o369 =>
          (if o369.1 = true then
            K320 o369.2.2.2.2.1 o369.2.2.2.2.2.1 o369.2.2.2.2.2.2 o369.2.1 o369.2.2.1 o369.2.2.2.1
          else
            some (.inr (false, o369.2.1, o369.2.2.1, o369.2.2.2.1, v47, o369.2.2.2.2.1, o369.2.2.2.2.2.1, o369.2.2.2.2.2.2))
          )
        else
          K320 f310 f42 f311 v312 v45 v308
        )
        ) fun K313 =>
        (if v304 ≤ 0 then
          K313 f305 f306 v307
        else
          (if 4 ≤ v304 then
            K313 f305 f306 v307
          else
            Option.bind (f_X0_puts f305 f42 f306 v307 v45 v308 v47 2 o294) fun o373 =>
            (if o373.1 = true then
              lti (o288 ^^^ o292) fun v375 =>
              Option.bind (f_X0_puts o373.2.2.1 f42 o373.2.2.2 o373.2.1 v45 v308 v47 3 v375) fun o376 =>
              (if o376.1 = true then
                lti (o290 ||| 1) fun v378 =>
                Option.bind (f_X0_puts o376.2.2.1 f42 o376.2.2.2 o376.2.1 v45 v308 v47 4 v378) fun o379 =>
                (if o379.1 = true then
                  K313 o379.2.2.1 o379.2.2.2 o379.2.1
                else
                  some (.inr (false, o379.2.1, v45, v308, v47, o379.2.2.1, f42, o379.2.2.2))
                )
              else
                some (.inr (false, o376.2.1, v45, v308, v47, o376.2.2.1, f42, o376.2.2.2))
              )
            else
              some (.inr (false, o373.2.1, v45, v308, v47, o373.2.2.1, f42, o373.2.2.2))
            )
          )
        )
        ) fun K309 =>
        (if v304 = 0 then
          Option.bind (f_X0_areAngles f41 f42 f43 v44 v45 v46 v47 o288 o290) fun o382 =>
          (if o382.1 = true then
            K309 o382.2.2.2.1 o382.2.2.2.2 o382.2.1 o382.2.2.1
          else
            some (.inr (false, o382.2.1, v45, o382.2.2.1, v47, o382.2.2.2.1, f42, o382.2.2.2.2))
          )
        else
          K309 f41 f43 v44 v46
        )
      )
      ))
      ) fun F284 =>
      Option.bind (lp 5 (fun x => F284 x.1 x.2.1 x.2.2.1 x.2.2.2.1 x.2.2.2.2.1 x.2.2.2.2.2.1 x.2.2.2.2.2.2.1 x.2.2.2.2.2.2.2) (o39.2.2.2.2.1, o39.2.2.2.2.2.1, o39.2.2.2.2.2.2, o39.2.1, o39.2.2.1, o39.2.2.2.1, x0r0f6, 0)) fun w285 =>
      (some w285)
    else
      some (false, o39.2.1, o39.2.2.1, o39.2.2.2.1, x0r0f6, o39.2.2.2.2.1, o39.2.2.2.2.2.1, o39.2.2.2.2.2.2)
    )
  else
    some (false, x0r0f3, x0r0f4, x0r0f5, x0r0f6, x0r0r0c, x0r0r1c, x0r0r2c)
  )
  ))
theorem hd_X0_holds : Hd yX0_holds 1 := by unfold Hd; decide +kernel
set_option maxHeartbeats 4000000 in
set_option maxRecDepth 100000 in
theorem m_X0_holds {l : Launch} (hfl : l.stackTraces = false) {D : DD} (x0 : Nat) (x0r0 : Nat) (x0r0r0 : Nat) (x0r0r1 : Nat) (x0r0r2 : Nat) (x1 : Nat)  (x0r0r0c : Nat → UInt64) (x0r0r1c : Nat → UInt64) (x0r0r2c : Nat → Int32) (x0r0f3 : Int32) (x0r0f4 : Int32) (x0r0f5 : Int32) (x0r0f6 : Int32) (x1n : Nat) (x1c : Nat → Int32) (r : Bool × Int32 × Int32 × Int32 × Int32 × (Nat → UInt64) × (Nat → UInt64) × (Nat → Int32)) (h : f_X0_holds x0r0r0c x0r0r1c x0r0r2c x0r0f3 x0r0f4 x0r0f5 x0r0f6 x1n x1c = some r) : MT l D yX0_holds cX0_holds 8 (some .boolean) 15 1590 504812 4372113 [.ref x0, .ref x1] (fun H => OA D 1 x0 [.ref x0r0] H ∧ ON D 0 x0r0 [.ref x0r0r0, .ref x0r0r1, .ref x0r0r2, .int x0r0f3, .int x0r0f4, .int x0r0f5, .int x0r0f6] H ∧ dB D ≤ x0r0 ∧ aD D x0r0r0 8 x0r0r0c H ∧ dB D ≤ x0r0r0 ∧ aD D x0r0r1 8 x0r0r1c H ∧ dB D ≤ x0r0r1 ∧ aZ D x0r0r2 8 x0r0r2c H ∧ dB D ≤ x0r0r2 ∧ aI D x1 x1n x1c H ∧ x1n ≤ 1000000 ∧ x0 ≠ x0r0 ∧ x0 ≠ x0r0r0 ∧ x0 ≠ x0r0r1 ∧ x0 ≠ x0r0r2 ∧ x0r0 ≠ x0r0r0 ∧ x0r0 ≠ x0r0r1 ∧ x0r0 ≠ x0r0r2 ∧ x0r0 ≠ x1 ∧ x0r0r0 ≠ x0r0r1 ∧ x0r0r0 ≠ x0r0r2 ∧ x0r0r0 ≠ x1 ∧ x0r0r1 ≠ x0r0r2 ∧ x0r0r1 ≠ x1 ∧ x0r0r2 ≠ x1) (pZ (fun H b H' => b = r.1 ∧ ON D 0 x0r0 [.ref x0r0r0, .ref x0r0r1, .ref x0r0r2, .int r.2.1, .int r.2.2.1, .int r.2.2.2.1, .int r.2.2.2.2.1] H' ∧ aD D x0r0r0 8 r.2.2.2.2.2.1 H' ∧ aD D x0r0r1 8 r.2.2.2.2.2.2.1 H' ∧ aZ D x0r0r2 8 r.2.2.2.2.2.2.2 H' ∧ Off (fun a => a = x0r0 ∨ a = x0r0r0 ∨ a = x0r0r1 ∨ a = x0r0r2) H H')) := by
  refine MT.start (by decide +kernel) (Nat.le_of_ble_eq_true rfl) ?_
  intro p e s m below meth c ls hC hS hp hl
  obtain ⟨h_x0, h_x0r0, hB_h_x0r0, h_x0r0r0, hB_h_x0r0r0, h_x0r0r1, hB_h_x0r0r1, h_x0r0r2, hB_h_x0r0r2, h_x1, l_x1, ne_x0_x0r0, ne_x0_x0r0r0, ne_x0_x0r0r1, ne_x0_x0r0r2, ne_x0r0_x0r0r0, ne_x0r0_x0r0r1, ne_x0r0_x0r0r2, ne_x0r0_x1, ne_x0r0r0_x0r0r1, ne_x0r0r0_x0r0r2, ne_x0r0r0_x1, ne_x0r0r1_x0r0r2, ne_x0r0r1_x1, ne_x0r0r2_x1⟩ := hp
  obtain ⟨hx, hb, hr, hlk, hml, hown, hts, hnm⟩ := id hC
  have hl : lv_has ls 8 [(0, .ref x0), (1, .ref x1)] := hl
  unfold f_X0_holds at h
  have hS0 := hS
  obtain ⟨A, eA⟩ : ∃ A : Array Value, A = [.ref x0, .ref x1].toArray := ⟨_, rfl⟩
  rw [← eA] at hC hts ⊢
  obtain ⟨Q, eQ⟩ : ∃ Q : State → Prop, Q = MQ below (TQ D (pZ (fun H b H' => b = r.1 ∧ ON D 0 x0r0 [.ref x0r0r0, .ref x0r0r1, .ref x0r0r2, .int r.2.1, .int r.2.2.1, .int r.2.2.2.1, .int r.2.2.2.2.1] H' ∧ aD D x0r0r0 8 r.2.2.2.2.2.1 H' ∧ aD D x0r0r1 8 r.2.2.2.2.2.2.1 H' ∧ aZ D x0r0r2 8 r.2.2.2.2.2.2.2 H' ∧ Off (fun a => a = x0r0 ∨ a = x0r0r0 ∨ a = x0r0r1 ∨ a = x0r0r2) H H'))) A s 504812 4372113 (fun q => dB D ≤ q) := ⟨_, rfl⟩
  have hF : Off (fun a => a = x0r0 ∨ a = x0r0r0 ∨ a = x0r0r1 ∨ a = x0r0r2) s.heap s.heap := Off.rf
  show W p l e R_X0_holds s m A below meth c s.heap [] 0 0 _ _
  rw [← eQ]
  obtain ⟨H, eH⟩ : ∃ H : Heap, H = s.heap := ⟨_, rfl⟩
  obtain ⟨locs, eLc⟩ : ∃ L : List Loc, L = [] := ⟨_, rfl⟩
  have lt_h_x0 := h_x0.lt
  have lt_h_x0r0 := h_x0r0.lt
  have lt_h_x0r0r0 := h_x0r0r0.lt
  have lt_h_x0r0r1 := h_x0r0r1.lt
  have lt_h_x0r0r2 := h_x0r0r2.lt
  have lt_h_x1 := h_x1.lt
  rw [← eH, ← eLc]
  have hF : Off (fun a => a = x0r0 ∨ a = x0r0r0 ∨ a = x0r0r1 ∨ a = x0r0r2) s.heap H := by rw [eH]; exact hF
  rw [← eH] at h_x0
  rw [← eH] at h_x0r0
  rw [← eH] at h_x0r0r0
  rw [← eH] at h_x0r0r1
  rw [← eH] at h_x0r0r2
  rw [← eH] at h_x1
  have hS : St D s H locs := by rw [eH, eLc]; exact hS
  refine lv_iconst (v := 0) hx hb dX0_holds_0 (by decide) ?_
  refine lv_istore_n (lv' := [(2, .int 0), (0, .ref x0), (1, .ref x1)]) hx hb dX0_holds_1 rfl hl (by decide) rfl (fun ls hl => ?_)
  obtain ⟨F17, eF17, h⟩ := lt_step h
  obtain ⟨w18, ew18, h⟩ := bind_step h
  obtain ⟨CE, eCE⟩ : ∃ x : Nat, x = 0 + 792 := ⟨_, rfl⟩
  obtain ⟨SE, eSE⟩ : ∃ x : Nat, x = 0 + 7884 := ⟨_, rfl⟩
  have hCE : CE ≤ R_X0_holds.cells := (by rw [eCE]; exact Nat.le_of_ble_eq_true rfl)
  have hSE : SE ≤ R_X0_holds.slots := (by rw [eSE]; exact Nat.le_of_ble_eq_true rfl)
  have HL : ∀ (n : Nat) (v1 : Int32) (w18 : Sum (Bool × Int32 × Int32 × Int32 × Int32 × (Nat → UInt64) × (Nat → UInt64) × (Nat → Int32)) (Unit)) (hk0 : lp n (fun x => F17 x) v1 = some w18) (cl : Nat) (sl : Nat) (hcl : cl + 88 * n ≤ CE) (hsl : sl + 876 * n ≤ SE) (H : Heap) (locs : List Loc) (hS : St D s H locs) (hF : Off (fun a => a = x0r0 ∨ a = x0r0r0 ∨ a = x0r0r1 ∨ a = x0r0r2) s.heap H) (h_x0 : OA D 1 x0 [.ref x0r0] H) (h_x0r0 : ON D 0 x0r0 [.ref x0r0r0, .ref x0r0r1, .ref x0r0r2, .int x0r0f3, .int x0r0f4, .int x0r0f5, .int x0r0f6] H) (h_x0r0r0 : aD D x0r0r0 8 x0r0r0c H) (h_x0r0r1 : aD D x0r0r1 8 x0r0r1c H) (h_x0r0r2 : aZ D x0r0r2 8 x0r0r2c H) (h_x1 : aI D x1 x1n x1c H) (ls : Array Slot) (hl : lv_has ls 8 [(0, .ref x0), (1, .ref x1), (2, .int v1)]) (KR : ∀ rt, w18 = .inl rt → rt = r) (K73 : ∀ (u35 : Unit) (eu35 : w18 = .inr u35) (H : Heap) (locs : List Loc) (hS : St D s H locs) (hF : Off (fun a => a = x0r0 ∨ a = x0r0r0 ∨ a = x0r0r1 ∨ a = x0r0r2) s.heap H) (h_x0 : OA D 1 x0 [.ref x0r0] H) (h_x0r0 : ON D 0 x0r0 [.ref x0r0r0, .ref x0r0r1, .ref x0r0r2, .int x0r0f3, .int x0r0f4, .int x0r0f5, .int x0r0f6] H) (h_x0r0r0 : aD D x0r0r0 8 x0r0r0c H) (h_x0r0r1 : aD D x0r0r1 8 x0r0r1c H) (h_x0r0r2 : aZ D x0r0r2 8 x0r0r2c H) (h_x1 : aI D x1 x1n x1c H) (ls : Array Slot) (hl : lv_has ls 8 [(0, .ref x0), (1, .ref x1)]), W p l e R_X0_holds s m A below meth c H locs CE SE Q (F0 m 73 ls [])), W p l e R_X0_holds s m A below meth c H locs cl sl Q (F0 m 2 ls []) := by
    intro n
    induction n with
    | zero => intro v1 w18 hk0 cl sl hcl hsl H locs hS hF h_x0 h_x0r0 h_x0r0r0 h_x0r0r1 h_x0r0r2 h_x1 ls hl KR K73; exact lp_zero hk0
    | succ n ih =>
      intro v1 w18 hk0 cl sl hcl hsl H locs hS hF h_x0 h_x0r0 h_x0r0r0 h_x0r0r1 h_x0r0r2 h_x1 ls hl KR K73
      obtain ⟨z19, hz, hk⟩ := lp_step hk0
      have h := (congrFun (eF17) v1).symm.trans hz
      have hcO : cl + 88 ≤ CE := al_out hcl
      have hcE : cl + 88 ≤ R_X0_holds.cells := Nat.le_trans hcO hCE
      have hcN : ∀ a, a ≤ 88 → cl + a + 88 * n ≤ CE := fun a ha => al_next hcl ha
      have hcN0 : cl + 88 * n ≤ CE := al_next hcl (Nat.zero_le _)
      have hsO : sl + 876 ≤ SE := al_out hsl
      have hsE : sl + 876 ≤ R_X0_holds.slots := Nat.le_trans hsO hSE
      have hsN : ∀ a, a ≤ 876 → sl + a + 876 * n ≤ SE := fun a ha => al_next hsl ha
      have hsN0 : sl + 876 * n ≤ SE := al_next hsl (Nat.zero_le _)
      clear hcl hsl
      refine lv_iload_n hx hb dX0_holds_2 rfl (lv_at hl 2 rfl) ?_
      refine lv_bipush (v := 8) hx hb dX0_holds_3 (by decide) ?_
      refine lv_icmp_ge (tgt := 73) hx hb dX0_holds_5 (by decide) (fun c20 => ?_) (fun c20 => ?_)
      · have h := it_pos h c20
        obtain rfl := Option.some.inj h
        refine W.widen (k := CE) (n := SE) (by omega) (by omega) ?_
        exact K73 () hk.symm H locs hS hF h_x0 h_x0r0 h_x0r0r0 h_x0r0r1 h_x0r0r2 h_x1 ls (lv_sub hl [0, 1] rfl)
      · have h := it_neg h c20
        refine lv_aload_n hx hb dX0_holds_8 rfl (lv_at hl 0 rfl) ?_
        refine lv_iload_n hx hb dX0_holds_9 rfl (lv_at hl 2 rfl) ?_
        obtain ⟨o21, eo21, h⟩ := bind_step h
        refine r_cl (r_runV (rest := []) (As := [.int v1]) hC 1 (m_X0_its x0 x0r0 x0r0r0 x0r0r1 x0r0r2  x0r0r0c x0r0r1c x0r0r2c x0r0f3 x0r0f4 x0r0f5 x0r0f6 v1 o21 eo21) q944 q946 qs10 q39 q947 (OA.recv hS h_x0 (C := RX0) rfl) hd_X0_its rfl ⟨Nat.le_of_ble_eq_true rfl, Nat.le_of_ble_eq_true rfl⟩ hS ⟨h_x0, h_x0r0, h_x0r0r0, h_x0r0r1, h_x0r0r2⟩ hl.1 rfl (Nat.le_of_ble_eq_true rfl) dX0_holds_10 ⟨by have := hcE; have := hsE; omega, by have := hcE; have := hsE; omega⟩) hS (fun b H locs hp hS hz => ?_)
        obtain ⟨eb_, hO⟩ := hp
        rw [eb_]
        have h_x0 := h_x0.ext hO
        have h_x0r0 := h_x0r0.ext hO
        have h_x0r0r0 := h_x0r0r0.ext hO
        have h_x0r0r1 := h_x0r0r1.ext hO
        have h_x0r0r2 := h_x0r0r2.ext hO
        have h_x1 := h_x1.ext hO
        have hF := hF.trans (hO.mono (fun _ _ z => z.elim))
        refine lv_lconst (v := 0) hx hb dX0_holds_13 rfl ?_
        obtain ⟨v22, ev22, h⟩ := lti_step h
        refine r_lcmp hx hb ev22 dX0_holds_14 ?_
        refine lv_if_ne (tgt := 65) hx hb dX0_holds_15 (by decide) (fun c23 => ?_) (fun c23 => ?_)
        · have h := it_neg h c23
          refine lv_iconst (v := 0) hx hb dX0_holds_65 (by decide) ?_
          obtain rfl := Option.some.inj h
          have h := congrArg some (KR _ hk.symm)
          refine W.widen (k := CE) (n := SE) (by omega) (by omega) ?_
          obtain rfl := Option.some.inj h
          rw [eQ]
          exact r_zret hx hb hr hlk hS (by decide) hCE hSE dX0_holds_66 ⟨_, rfl, rfl, h_x0r0, h_x0r0r0, h_x0r0r1, h_x0r0r2, hF⟩
        · have h := it_pos h c23
          refine lv_aload_n hx hb dX0_holds_18 rfl (lv_at hl 0 rfl) ?_
          refine r_get hx hb hts hown hS h_x0 rfl in_X0 0 (by decide) q936 rfl (v := .ref x0r0) rfl dX0_holds_19 ?_
          refine lv_iload_n hx hb dX0_holds_22 rfl (lv_at hl 2 rfl) ?_
          obtain ⟨o24, eo24, h⟩ := bind_step h
          refine r_cp (r_runV (rest := []) (As := [.int v1]) hC 1 (m_X1_angleUpper x0r0 x0r0r0 x0r0r1 x0r0r2  x0r0r0c x0r0r1c x0r0r2c x0r0f3 x0r0f4 x0r0f5 x0r0f6 v1 o24 eo24) q1190 q1191 q1192 q46 q1193 (OA.recv hS h_x0r0.OA (C := RX1) rfl) hd_X1_angleUpper rfl ⟨Nat.le_of_ble_eq_true rfl, Nat.le_of_ble_eq_true rfl⟩ hS ⟨h_x0r0, h_x0r0r0, h_x0r0r1, h_x0r0r2⟩ hl.1 rfl (Nat.le_of_ble_eq_true rfl) dX0_holds_23 ⟨by have := hcE; have := hsE; omega, by have := hcE; have := hsE; omega⟩) ?_
          refine lv_if_ne (tgt := 65) hx hb dX0_holds_26 (by decide) (fun c25 => ?_) (fun c25 => ?_)
          · have h := it_neg h c25
            refine lv_iconst (v := 0) hx hb dX0_holds_65 (by decide) ?_
            obtain rfl := Option.some.inj h
            have h := congrArg some (KR _ hk.symm)
            refine W.widen (k := CE) (n := SE) (by omega) (by omega) ?_
            obtain rfl := Option.some.inj h
            rw [eQ]
            exact r_zret hx hb hr hlk hS (by decide) hCE hSE dX0_holds_66 ⟨_, rfl, rfl, h_x0r0, h_x0r0r0, h_x0r0r1, h_x0r0r2, hF⟩
          · have h := it_pos h c25
            refine lv_aload_n hx hb dX0_holds_29 rfl (lv_at hl 0 rfl) ?_
            refine lv_iload_n hx hb dX0_holds_30 rfl (lv_at hl 2 rfl) ?_
            obtain ⟨o26, eo26, h⟩ := bind_step h
            refine r_cl (r_runV (rest := []) (As := [.int v1]) hC 1 (m_X0_told_2 x0 x0r0 x0r0r0 x0r0r1 x0r0r2  x0r0r0c x0r0r1c x0r0r2c x0r0f3 x0r0f4 x0r0f5 x0r0f6 v1 o26 eo26) q1194 q1196 qs12 q39 q1197 (OA.recv hS h_x0 (C := RX0) rfl) hd_X0_told_2 rfl ⟨Nat.le_of_ble_eq_true rfl, Nat.le_of_ble_eq_true rfl⟩ hS ⟨h_x0, h_x0r0, h_x0r0r0, h_x0r0r1, h_x0r0r2⟩ hl.1 rfl (Nat.le_of_ble_eq_true rfl) dX0_holds_31 ⟨by have := hcE; have := hsE; omega, by have := hcE; have := hsE; omega⟩) hS (fun b H locs hp hS hz => ?_)
            obtain ⟨eb_, hO⟩ := hp
            rw [eb_]
            have h_x0 := h_x0.ext hO
            have h_x0r0 := h_x0r0.ext hO
            have h_x0r0r0 := h_x0r0r0.ext hO
            have h_x0r0r1 := h_x0r0r1.ext hO
            have h_x0r0r2 := h_x0r0r2.ext hO
            have h_x1 := h_x1.ext hO
            have hF := hF.trans (hO.mono (fun _ _ z => z.elim))
            refine lv_lconst (v := 0) hx hb dX0_holds_34 rfl ?_
            obtain ⟨v27, ev27, h⟩ := lti_step h
            refine r_lcmp hx hb ev27 dX0_holds_35 ?_
            refine lv_if_ne (tgt := 65) hx hb dX0_holds_36 (by decide) (fun c28 => ?_) (fun c28 => ?_)
            · have h := it_neg h c28
              refine lv_iconst (v := 0) hx hb dX0_holds_65 (by decide) ?_
              obtain rfl := Option.some.inj h
              have h := congrArg some (KR _ hk.symm)
              refine W.widen (k := CE) (n := SE) (by omega) (by omega) ?_
              obtain rfl := Option.some.inj h
              rw [eQ]
              exact r_zret hx hb hr hlk hS (by decide) hCE hSE dX0_holds_66 ⟨_, rfl, rfl, h_x0r0, h_x0r0r0, h_x0r0r1, h_x0r0r2, hF⟩
            · have h := it_pos h c28
              refine lv_aload_n hx hb dX0_holds_39 rfl (lv_at hl 0 rfl) ?_
              refine r_get hx hb hts hown hS h_x0 rfl in_X0 0 (by decide) q936 rfl (v := .ref x0r0) rfl dX0_holds_40 ?_
              refine lv_iload_n hx hb dX0_holds_43 rfl (lv_at hl 2 rfl) ?_
              obtain ⟨o29, eo29, h⟩ := bind_step h
              refine r_cp (r_runV (rest := []) (As := [.int v1]) hC 1 (m_X1_upper x0r0 x0r0r0 x0r0r1 x0r0r2  x0r0r0c x0r0r1c x0r0r2c x0r0f3 x0r0f4 x0r0f5 x0r0f6 v1 o29 eo29) q1240 q1241 q1242 q46 q1243 (OA.recv hS h_x0r0.OA (C := RX1) rfl) hd_X1_upper rfl ⟨Nat.le_of_ble_eq_true rfl, Nat.le_of_ble_eq_true rfl⟩ hS ⟨h_x0r0, h_x0r0r0, h_x0r0r1, h_x0r0r2⟩ hl.1 rfl (Nat.le_of_ble_eq_true rfl) dX0_holds_44 ⟨by have := hcE; have := hsE; omega, by have := hcE; have := hsE; omega⟩) ?_
              refine lv_if_ne (tgt := 65) hx hb dX0_holds_47 (by decide) (fun c30 => ?_) (fun c30 => ?_)
              · have h := it_neg h c30
                refine lv_iconst (v := 0) hx hb dX0_holds_65 (by decide) ?_
                obtain rfl := Option.some.inj h
                have h := congrArg some (KR _ hk.symm)
                refine W.widen (k := CE) (n := SE) (by omega) (by omega) ?_
                obtain rfl := Option.some.inj h
                rw [eQ]
                exact r_zret hx hb hr hlk hS (by decide) hCE hSE dX0_holds_66 ⟨_, rfl, rfl, h_x0r0, h_x0r0r0, h_x0r0r1, h_x0r0r2, hF⟩
              · have h := it_pos h c30
                refine lv_aload_n hx hb dX0_holds_50 rfl (lv_at hl 0 rfl) ?_
                refine r_get hx hb hts hown hS h_x0 rfl in_X0 0 (by decide) q936 rfl (v := .ref x0r0) rfl dX0_holds_51 ?_
                refine lv_iload_n hx hb dX0_holds_54 rfl (lv_at hl 2 rfl) ?_
                refine lv_iconst (v := 4) hx hb dX0_holds_55 (by decide) ?_
                obtain ⟨o31, eo31, h⟩ := bind_step h
                refine r_cp (r_runS (rest := [.ref x0r0]) (As := [.int v1, .int 4]) hC 2 (m_X0_some   v1 4 o31 eo31) q1244 q1245 q39 q1246 hd_X0_some rfl ⟨Nat.le_of_ble_eq_true rfl, Nat.le_of_ble_eq_true rfl⟩ hS trivial hl.1 rfl (Nat.le_of_ble_eq_true rfl) dX0_holds_56 ⟨by have := hcE; have := hsE; omega, by have := hcE; have := hsE; omega⟩) ?_
                obtain ⟨o32, eo32, h⟩ := bind_step h
                refine r_cp (r_runV (rest := []) (As := [.int o31]) hC 1 (m_X1_house x0r0 x0r0r0 x0r0r1 x0r0r2  x0r0r0c x0r0r1c x0r0r2c x0r0f3 x0r0f4 x0r0f5 x0r0f6 o31 o32 eo32) q1248 q1249 q1250 q46 q1251 (OA.recv hS h_x0r0.OA (C := RX1) rfl) hd_X1_house rfl ⟨Nat.le_of_ble_eq_true rfl, Nat.le_of_ble_eq_true rfl⟩ hS ⟨h_x0r0, h_x0r0r0, h_x0r0r1, h_x0r0r2⟩ hl.1 rfl (Nat.le_of_ble_eq_true rfl) dX0_holds_59 ⟨by have := hcE; have := hsE; omega, by have := hcE; have := hsE; omega⟩) ?_
                refine lv_if_eq (tgt := 67) hx hb dX0_holds_62 (by decide) (fun c33 => ?_) (fun c33 => ?_)
                · have h := it_pos h c33
                  obtain ⟨v34, ev34, h⟩ := lti_step h
                  refine lv_iinc (v := v34) (lv' := [(2, .int v34), (0, .ref x0), (1, .ref x1)]) hx hb dX0_holds_67 hl (k := 2) rfl (by rw [ev34]; rfl) (by decide) rfl (fun ls hl => ?_)
                  refine lv_goto (tgt := 2) hx hb dX0_holds_70 (by decide) ?_
                  obtain rfl := Option.some.inj h
                  exact ih v34 w18 hk _ _ (hcN 88 (Nat.le_of_ble_eq_true rfl)) (hsN 876 (Nat.le_of_ble_eq_true rfl)) H locs hS hF h_x0 h_x0r0 h_x0r0r0 h_x0r0r1 h_x0r0r2 h_x1 ls (lv_sub hl [1, 2, 0] rfl) KR K73
                · have h := it_neg h c33
                  refine lv_iconst (v := 0) hx hb dX0_holds_65 (by decide) ?_
                  obtain rfl := Option.some.inj h
                  have h := congrArg some (KR _ hk.symm)
                  refine W.widen (k := CE) (n := SE) (by omega) (by omega) ?_
                  obtain rfl := Option.some.inj h
                  rw [eQ]
                  exact r_zret hx hb hr hlk hS (by decide) hCE hSE dX0_holds_66 ⟨_, rfl, rfl, h_x0r0, h_x0r0r0, h_x0r0r1, h_x0r0r2, hF⟩
  clear eF17
  refine HL 9 0 w18 ew18 _ _ (Nat.le_of_eq eCE.symm) (Nat.le_of_eq eSE.symm) H locs hS hF h_x0 h_x0r0 h_x0r0r0 h_x0r0r1 h_x0r0r2 h_x1 ls (lv_sub hl [1, 2, 0] rfl) (fun rt eR => ?_) (fun u36 eu36 H locs hS hF h_x0 h_x0r0 h_x0r0r0 h_x0r0r1 h_x0r0r2 h_x1 ls hl => ?_)
  · subst eR
    exact Option.some.inj h
  · subst eu36
    rw [eCE, eSE]
    refine lv_aload_n hx hb dX0_holds_73 rfl (lv_at hl 0 rfl) ?_
    obtain ⟨o37, eo37, h⟩ := bind_step h
    refine r_cz (r_runV (rest := []) (As := []) hC 0 (m_X0_isOut hfl x0 x0r0 x0r0r0 x0r0r1 x0r0r2  x0r0r0c x0r0r1c x0r0r2c x0r0f3 x0r0f4 x0r0f5 x0r0f6 o37 eo37) q1252 q1254 qs17 q39 q1255 (OA.recv hS h_x0 (C := RX0) rfl) hd_X0_isOut rfl ⟨Nat.le_of_ble_eq_true rfl, Nat.le_of_ble_eq_true rfl⟩ hS ⟨h_x0, h_x0r0, h_x0r0r0, h_x0r0r1, h_x0r0r2⟩ hl.1 rfl (Nat.le_of_ble_eq_true rfl) dX0_holds_74 ⟨Nat.le_of_ble_eq_true rfl, Nat.le_of_ble_eq_true rfl⟩) hS (fun b H locs hp hS hz => ?_)
    obtain ⟨eb_, hO⟩ := hp
    rw [eb_]
    have h_x0 := h_x0.ext hO
    have h_x0r0 := h_x0r0.ext hO
    have h_x0r0r0 := h_x0r0r0.ext hO
    have h_x0r0r1 := h_x0r0r1.ext hO
    have h_x0r0r2 := h_x0r0r2.ext hO
    have h_x1 := h_x1.ext hO
    have hF := hF.trans (hO.mono (fun _ _ z => z.elim))
    refine r_ifz_eq (tgt := 87) hx hb dX0_holds_77 (by decide) (fun c38 => ?_) (fun c38 => ?_)
    · have h := it_neg h (by rw [c38]; decide)
      refine lv_iconst (v := 0) hx hb dX0_holds_87 (by decide) ?_
      obtain rfl := Option.some.inj h
      rw [eQ]
      exact r_zret hx hb hr hlk hS (by decide) (Nat.le_of_ble_eq_true rfl) (Nat.le_of_ble_eq_true rfl) dX0_holds_88 ⟨_, rfl, rfl, h_x0r0, h_x0r0r0, h_x0r0r1, h_x0r0r2, hF⟩
    · have h := it_pos h (by rw [c38])
      refine lv_aload_n hx hb dX0_holds_80 rfl (lv_at hl 0 rfl) ?_
      obtain ⟨o39, eo39, h⟩ := bind_step h
      refine r_cz (r_runV (rest := []) (As := []) hC 0 (m_X0_areKnown x0 x0r0 x0r0r0 x0r0r1 x0r0r2  x0r0r0c x0r0r1c x0r0r2c x0r0f3 x0r0f4 x0r0f5 x0r0f6 o39 eo39) q1401 q1403 qs25 q39 q1404 (OA.recv hS h_x0 (C := RX0) rfl) hd_X0_areKnown rfl ⟨Nat.le_of_ble_eq_true rfl, Nat.le_of_ble_eq_true rfl⟩ hS ⟨h_x0, h_x0r0, hB_h_x0r0, h_x0r0r0, hB_h_x0r0r0, h_x0r0r1, hB_h_x0r0r1, h_x0r0r2, hB_h_x0r0r2, ne_x0_x0r0, ne_x0_x0r0r0, ne_x0_x0r0r1, ne_x0_x0r0r2, ne_x0r0_x0r0r0, ne_x0r0_x0r0r1, ne_x0r0_x0r0r2, ne_x0r0r0_x0r0r1, ne_x0r0r0_x0r0r2, ne_x0r0r1_x0r0r2⟩ hl.1 rfl (Nat.le_of_ble_eq_true rfl) dX0_holds_81 ⟨Nat.le_of_ble_eq_true rfl, Nat.le_of_ble_eq_true rfl⟩) hS (fun b H locs hp hS hz => ?_)
      obtain ⟨rfl, h_x0r0, h_x0r0r0, h_x0r0r1, h_x0r0r2, hO⟩ := hp
      have h_x0 := h_x0.off hO (fun z => by rcases z with z | z | z | z <;> first | exact ne_x0_x0r0 z | exact ne_x0_x0r0r0 z | exact ne_x0_x0r0r1 z | exact ne_x0_x0r0r2 z)
      have h_x1 := h_x1.off hO (fun z => by rcases z with z | z | z | z <;> first | exact (Ne.symm ne_x0r0_x1) z | exact (Ne.symm ne_x0r0r0_x1) z | exact (Ne.symm ne_x0r0r1_x1) z | exact (Ne.symm ne_x0r0r2_x1) z)
      have hF := hF.fresh hO (fun a ha z => by
        rcases z with z | z | z | z
        · exact Or.inl z
        · exact Or.inr (Or.inl z)
        · exact Or.inr (Or.inr (Or.inl z))
        · exact Or.inr (Or.inr (Or.inr (z))))
      refine r_ifz_ne (tgt := 89) hx hb dX0_holds_84 (by decide) (fun c40 => ?_) (fun c40 => ?_)
      · have h := it_pos h (by rw [c40])
        refine lv_iconst (v := 0) hx hb dX0_holds_89 (by decide) ?_
        refine lv_istore_n (lv' := [(2, .int 0), (0, .ref x0), (1, .ref x1)]) hx hb dX0_holds_90 rfl hl (by decide) rfl (fun ls hl => ?_)
        obtain ⟨F284, eF284, h⟩ := lt_step h
        obtain ⟨w285, ew285, h⟩ := bind_step h
        obtain ⟨CE, eCE⟩ : ∃ x : Nat, x = 17437 + 487375 := ⟨_, rfl⟩
        obtain ⟨SE, eSE⟩ : ∃ x : Nat, x = 174268 + 4197845 := ⟨_, rfl⟩
        have hCE : CE ≤ R_X0_holds.cells := (by rw [eCE]; exact Nat.le_of_ble_eq_true rfl)
        have hSE : SE ≤ R_X0_holds.slots := (by rw [eSE]; exact Nat.le_of_ble_eq_true rfl)
        have HL : ∀ (n : Nat) (f41 : Nat → UInt64) (f42 : Nat → UInt64) (f43 : Nat → Int32) (v44 : Int32) (v45 : Int32) (v46 : Int32) (v47 : Int32) (v48 : Int32) (w285 : Bool × Int32 × Int32 × Int32 × Int32 × (Nat → UInt64) × (Nat → UInt64) × (Nat → Int32)) (hk0 : lp n (fun x => F284 x.1 x.2.1 x.2.2.1 x.2.2.2.1 x.2.2.2.2.1 x.2.2.2.2.2.1 x.2.2.2.2.2.2.1 x.2.2.2.2.2.2.2) (f41, f42, f43, v44, v45, v46, v47, v48) = some w285) (cl : Nat) (sl : Nat) (hcl : cl + 97475 * n ≤ CE) (hsl : sl + 839569 * n ≤ SE) (H : Heap) (locs : List Loc) (hS : St D s H locs) (hF : Off (fun a => a = x0r0 ∨ a = x0r0r0 ∨ a = x0r0r1 ∨ a = x0r0r2) s.heap H) (h_x0 : OA D 1 x0 [.ref x0r0] H) (h_x0r0 : ON D 0 x0r0 [.ref x0r0r0, .ref x0r0r1, .ref x0r0r2, .int v44, .int v45, .int v46, .int v47] H) (h_x0r0r0 : aD D x0r0r0 8 f41 H) (h_x0r0r1 : aD D x0r0r1 8 f42 H) (h_x0r0r2 : aZ D x0r0r2 8 f43 H) (h_x1 : aI D x1 x1n x1c H) (ls : Array Slot) (hl : lv_has ls 8 [(0, .ref x0), (1, .ref x1), (2, .int v48)]) (KR : ∀ rt, w285 = rt → rt = r), W p l e R_X0_holds s m A below meth c H locs cl sl Q (F0 m 91 ls []) := by
          intro n
          induction n with
          | zero => intro f41 f42 f43 v44 v45 v46 v47 v48 w285 hk0 cl sl hcl hsl H locs hS hF h_x0 h_x0r0 h_x0r0r0 h_x0r0r1 h_x0r0r2 h_x1 ls hl KR; exact lp_zero hk0
          | succ n ih =>
            intro f41 f42 f43 v44 v45 v46 v47 v48 w285 hk0 cl sl hcl hsl H locs hS hF h_x0 h_x0r0 h_x0r0r0 h_x0r0r1 h_x0r0r2 h_x1 ls hl KR
            obtain ⟨z286, hz, hk⟩ := lp_step hk0
            have h := (congrFun (congrFun (congrFun (congrFun (congrFun (congrFun (congrFun (congrFun (eF284) f41) f42) f43) v44) v45) v46) v47) v48).symm.trans hz
            have hcO : cl + 97475 ≤ CE := al_out hcl
            have hcE : cl + 97475 ≤ R_X0_holds.cells := Nat.le_trans hcO hCE
            have hcN : ∀ a, a ≤ 97475 → cl + a + 97475 * n ≤ CE := fun a ha => al_next hcl ha
            have hcN0 : cl + 97475 * n ≤ CE := al_next hcl (Nat.zero_le _)
            have hsO : sl + 839569 ≤ SE := al_out hsl
            have hsE : sl + 839569 ≤ R_X0_holds.slots := Nat.le_trans hsO hSE
            have hsN : ∀ a, a ≤ 839569 → sl + a + 839569 * n ≤ SE := fun a ha => al_next hsl ha
            have hsN0 : sl + 839569 * n ≤ SE := al_next hsl (Nat.zero_le _)
            clear hcl hsl
            refine lv_iload_n hx hb dX0_holds_91 rfl (lv_at hl 2 rfl) ?_
            refine lv_bipush (v := 16) hx hb dX0_holds_92 (by decide) ?_
            refine lv_icmp_ge (tgt := 349) hx hb dX0_holds_94 (by decide) (fun c287 => ?_) (fun c287 => ?_)
            · have h := it_pos h c287
              refine lv_iconst (v := 1) hx hb dX0_holds_349 (by decide) ?_
              obtain rfl := Option.some.inj h
              have h := congrArg some (KR _ hk.symm)
              refine W.widen (k := CE) (n := SE) (by omega) (by omega) ?_
              obtain rfl := Option.some.inj h
              rw [eQ]
              exact r_zret hx hb hr hlk hS (by decide) hCE hSE dX0_holds_350 ⟨_, rfl, rfl, h_x0r0, h_x0r0r0, h_x0r0r1, h_x0r0r2, hF⟩
            · have h := it_neg h c287
              refine lv_aload_n hx hb dX0_holds_97 rfl (lv_at hl 1 rfl) ?_
              refine lv_iload_n hx hb dX0_holds_98 rfl (lv_at hl 2 rfl) ?_
              obtain ⟨o288, eo288, h⟩ := bind_step h
              refine r_cp (r_runS (rest := []) (As := [.ref x1, .int v48]) hC 2 (m_X0_cell x1  x1n x1c v48 o288 eo288) q1485 q1486 q39 q1487 hd_X0_cell rfl ⟨Nat.le_of_ble_eq_true rfl, Nat.le_of_ble_eq_true rfl⟩ hS ⟨h_x1, l_x1⟩ hl.1 rfl (Nat.le_of_ble_eq_true rfl) dX0_holds_99 ⟨by have := hcE; have := hsE; omega, by have := hcE; have := hsE; omega⟩) ?_
              refine lv_istore_n (lv' := [(3, .int o288), (0, .ref x0), (1, .ref x1), (2, .int v48)]) hx hb dX0_holds_102 rfl hl (by decide) rfl (fun ls hl => ?_)
              refine lv_aload_n hx hb dX0_holds_103 rfl (lv_at hl 2 rfl) ?_
              refine lv_iload_n hx hb dX0_holds_104 rfl (lv_at hl 3 rfl) ?_
              refine lv_iconst (v := 1) hx hb dX0_holds_105 (by decide) ?_
              obtain ⟨v289, ev289, h⟩ := lti_step h
              refine r_iadd hx hb ev289 dX0_holds_106 ?_
              obtain ⟨o290, eo290, h⟩ := bind_step h
              refine r_cp (r_runS (rest := []) (As := [.ref x1, .int v289]) hC 2 (m_X0_cell x1  x1n x1c v289 o290 eo290) q1485 q1486 q39 q1487 hd_X0_cell rfl ⟨Nat.le_of_ble_eq_true rfl, Nat.le_of_ble_eq_true rfl⟩ hS ⟨h_x1, l_x1⟩ hl.1 rfl (Nat.le_of_ble_eq_true rfl) dX0_holds_107 ⟨by have := hcE; have := hsE; omega, by have := hcE; have := hsE; omega⟩) ?_
              refine lv_istore (lv' := [(4, .int o290), (3, .int o288), (0, .ref x0), (1, .ref x1), (2, .int v48)]) hx hb dX0_holds_110 hl (by decide) rfl (fun ls hl => ?_)
              refine lv_aload_n hx hb dX0_holds_112 rfl (lv_at hl 3 rfl) ?_
              refine lv_iload_n hx hb dX0_holds_113 rfl (lv_at hl 4 rfl) ?_
              refine lv_iconst (v := 2) hx hb dX0_holds_114 (by decide) ?_
              obtain ⟨v291, ev291, h⟩ := lti_step h
              refine r_iadd hx hb ev291 dX0_holds_115 ?_
              obtain ⟨o292, eo292, h⟩ := bind_step h
              refine r_cp (r_runS (rest := []) (As := [.ref x1, .int v291]) hC 2 (m_X0_cell x1  x1n x1c v291 o292 eo292) q1485 q1486 q39 q1487 hd_X0_cell rfl ⟨Nat.le_of_ble_eq_true rfl, Nat.le_of_ble_eq_true rfl⟩ hS ⟨h_x1, l_x1⟩ hl.1 rfl (Nat.le_of_ble_eq_true rfl) dX0_holds_116 ⟨by have := hcE; have := hsE; omega, by have := hcE; have := hsE; omega⟩) ?_
              refine lv_istore (lv' := [(5, .int o292), (4, .int o290), (3, .int o288), (0, .ref x0), (1, .ref x1), (2, .int v48)]) hx hb dX0_holds_119 hl (by decide) rfl (fun ls hl => ?_)
              refine lv_aload_n hx hb dX0_holds_121 rfl (lv_at hl 4 rfl) ?_
              refine lv_iload_n hx hb dX0_holds_122 rfl (lv_at hl 5 rfl) ?_
              refine lv_iconst (v := 3) hx hb dX0_holds_123 (by decide) ?_
              obtain ⟨v293, ev293, h⟩ := lti_step h
              refine r_iadd hx hb ev293 dX0_holds_124 ?_
              obtain ⟨o294, eo294, h⟩ := bind_step h
              refine r_cp (r_runS (rest := []) (As := [.ref x1, .int v293]) hC 2 (m_X0_cell x1  x1n x1c v293 o294 eo294) q1485 q1486 q39 q1487 hd_X0_cell rfl ⟨Nat.le_of_ble_eq_true rfl, Nat.le_of_ble_eq_true rfl⟩ hS ⟨h_x1, l_x1⟩ hl.1 rfl (Nat.le_of_ble_eq_true rfl) dX0_holds_125 ⟨by have := hcE; have := hsE; omega, by have := hcE; have := hsE; omega⟩) ?_
              refine lv_istore (lv' := [(6, .int o294), (5, .int o292), (4, .int o290), (3, .int o288), (0, .ref x0), (1, .ref x1), (2, .int v48)]) hx hb dX0_holds_128 hl (by decide) rfl (fun ls hl => ?_)
              refine lv_iload_n hx hb dX0_holds_130 rfl (lv_at hl 6 rfl) ?_
              refine lv_iconst (v := 4) hx hb dX0_holds_131 (by decide) ?_
              obtain ⟨v295, ev295, h⟩ := lti_step h
              refine r_idiv hx hb ev295 (by decide) dX0_holds_132 ?_
              refine lv_iload_n hx hb dX0_holds_133 rfl (lv_at hl 3 rfl) ?_
              refine lv_iload hx hb dX0_holds_134 (lv_at hl 2 rfl) ?_
              refine lv_bipush (v := 7) hx hb dX0_holds_136 (by decide) ?_
              obtain ⟨v296, ev296, h⟩ := lti_step h
              refine r_ishr hx hb ev296 dX0_holds_138 ?_
              obtain ⟨v297, ev297, h⟩ := lti_step h
              refine r_ixor hx hb ev297 dX0_holds_139 ?_
              refine lv_iload hx hb dX0_holds_140 (lv_at hl 1 rfl) ?_
              refine lv_bipush (v := 11) hx hb dX0_holds_142 (by decide) ?_
              obtain ⟨v298, ev298, h⟩ := lti_step h
              refine r_ishr hx hb ev298 dX0_holds_144 ?_
              obtain ⟨v299, ev299, h⟩ := lti_step h
              refine r_ixor hx hb ev299 dX0_holds_145 ?_
              refine lv_iload hx hb dX0_holds_146 (lv_at hl 0 rfl) ?_
              refine lv_bipush (v := 13) hx hb dX0_holds_148 (by decide) ?_
              obtain ⟨v300, ev300, h⟩ := lti_step h
              refine r_ishr hx hb ev300 dX0_holds_150 ?_
              obtain ⟨v301, ev301, h⟩ := lti_step h
              refine r_ixor hx hb ev301 dX0_holds_151 ?_
              refine lv_bipush (v := 6) hx hb dX0_holds_152 (by decide) ?_
              obtain ⟨o302, eo302, h⟩ := bind_step h
              refine r_cp (r_runS (rest := [.int v295]) (As := [.int v301, .int 6]) hC 2 (m_X0_some   v301 6 o302 eo302) q1244 q1245 q39 q1246 hd_X0_some rfl ⟨Nat.le_of_ble_eq_true rfl, Nat.le_of_ble_eq_true rfl⟩ hS trivial hl.1 rfl (Nat.le_of_ble_eq_true rfl) dX0_holds_154 ⟨by have := hcE; have := hsE; omega, by have := hcE; have := hsE; omega⟩) ?_
              obtain ⟨v303, ev303, h⟩ := lti_step h
              refine r_iadd hx hb ev303 dX0_holds_157 ?_
              refine lv_bipush (v := 6) hx hb dX0_holds_158 (by decide) ?_
              obtain ⟨v304, ev304, h⟩ := lti_step h
              refine r_irem hx hb ev304 (by decide) dX0_holds_160 ?_
              refine lv_istore (lv' := [(7, .int v304), (6, .int o294), (5, .int o292), (4, .int o290), (3, .int o288), (0, .ref x0), (1, .ref x1), (2, .int v48)]) hx hb dX0_holds_161 hl (by decide) rfl (fun ls hl => ?_)
              refine lv_iload hx hb dX0_holds_163 (lv_at hl 0 rfl) ?_
              obtain ⟨K309, eK309, h⟩ := lt_step h
              have HK309 : ∀ (f305 : Nat → UInt64) (f306 : Nat → Int32) (v307 : Int32) (v308 : Int32) (h : K309 f305 f306 v307 v308 = some z286) (H : Heap) (locs : List Loc) (hS : St D s H locs) (hF : Off (fun a => a = x0r0 ∨ a = x0r0r0 ∨ a = x0r0r1 ∨ a = x0r0r2) s.heap H) (h_x0 : OA D 1 x0 [.ref x0r0] H) (h_x0r0 : ON D 0 x0r0 [.ref x0r0r0, .ref x0r0r1, .ref x0r0r2, .int v307, .int v45, .int v308, .int v47] H) (h_x0r0r0 : aD D x0r0r0 8 f305 H) (h_x0r0r1 : aD D x0r0r1 8 f42 H) (h_x0r0r2 : aZ D x0r0r2 8 f306 H) (h_x1 : aI D x1 x1n x1c H) (ls : Array Slot) (hl : lv_has ls 8 [(0, .ref x0), (1, .ref x1), (2, .int v48), (3, .int o288), (4, .int o290), (5, .int o292), (6, .int o294), (7, .int v304)]), W p l e R_X0_holds s m A below meth c H locs (cl + 7330) (sl + 74728) Q (F0 m 178 ls []) := by
                intro f305 f306 v307 v308 h H locs hS hF h_x0 h_x0r0 h_x0r0r0 h_x0r0r1 h_x0r0r2 h_x1 ls hl
                subst eK309
                refine lv_iload hx hb dX0_holds_178 (lv_at hl 7 rfl) ?_
                obtain ⟨K313, eK313, h⟩ := lt_step h
                have HK313 : ∀ (f310 : Nat → UInt64) (f311 : Nat → Int32) (v312 : Int32) (h : K313 f310 f311 v312 = some z286) (H : Heap) (locs : List Loc) (hS : St D s H locs) (hF : Off (fun a => a = x0r0 ∨ a = x0r0r0 ∨ a = x0r0r1 ∨ a = x0r0r2) s.heap H) (h_x0 : OA D 1 x0 [.ref x0r0] H) (h_x0r0 : ON D 0 x0r0 [.ref x0r0r0, .ref x0r0r1, .ref x0r0r2, .int v312, .int v45, .int v308, .int v47] H) (h_x0r0r0 : aD D x0r0r0 8 f310 H) (h_x0r0r1 : aD D x0r0r1 8 f42 H) (h_x0r0r2 : aZ D x0r0r2 8 f311 H) (h_x1 : aI D x1 x1n x1c H) (ls : Array Slot) (hl : lv_has ls 8 [(0, .ref x0), (1, .ref x1), (2, .int v48), (3, .int o288), (4, .int o290), (5, .int o292), (6, .int o294), (7, .int v304)]), W p l e R_X0_holds s m A below meth c H locs (cl + 10084) (sl + 104158) Q (F0 m 225 ls []) := by
                  intro f310 f311 v312 h H locs hS hF h_x0 h_x0r0 h_x0r0r0 h_x0r0r1 h_x0r0r2 h_x1 ls hl
                  subst eK313
                  refine lv_iload hx hb dX0_holds_225 (lv_at hl 7 rfl) ?_
                  refine lv_iconst (v := 1) hx hb dX0_holds_227 (by decide) ?_
                  obtain ⟨K320, eK320, h⟩ := lt_step h
                  have HK320 : ∀ (f314 : Nat → UInt64) (f315 : Nat → UInt64) (f316 : Nat → Int32) (v317 : Int32) (v318 : Int32) (v319 : Int32) (h : K320 f314 f315 f316 v317 v318 v319 = some z286) (H : Heap) (locs : List Loc) (hS : St D s H locs) (hF : Off (fun a => a = x0r0 ∨ a = x0r0r0 ∨ a = x0r0r1 ∨ a = x0r0r2) s.heap H) (h_x0 : OA D 1 x0 [.ref x0r0] H) (h_x0r0 : ON D 0 x0r0 [.ref x0r0r0, .ref x0r0r1, .ref x0r0r2, .int v317, .int v318, .int v319, .int v47] H) (h_x0r0r0 : aD D x0r0r0 8 f314 H) (h_x0r0r1 : aD D x0r0r1 8 f315 H) (h_x0r0r2 : aZ D x0r0r2 8 f316 H) (h_x1 : aI D x1 x1n x1c H) (ls : Array Slot) (hl : lv_has ls 8 [(0, .ref x0), (1, .ref x1), (2, .int v48), (4, .int o290), (5, .int o292), (6, .int o294), (7, .int v304)]), W p l e R_X0_holds s m A below meth c H locs (cl + 13080) (sl + 136366) Q (F0 m 240 ls []) := by
                    intro f314 f315 f316 v317 v318 v319 h H locs hS hF h_x0 h_x0r0 h_x0r0r0 h_x0r0r1 h_x0r0r2 h_x1 ls hl
                    subst eK320
                    refine lv_iload hx hb dX0_holds_240 (lv_at hl 6 rfl) ?_
                    refine lv_iconst (v := 2) hx hb dX0_holds_242 (by decide) ?_
                    obtain ⟨K327, eK327, h⟩ := lt_step h
                    have HK327 : ∀ (f321 : Nat → UInt64) (f322 : Nat → UInt64) (f323 : Nat → Int32) (v324 : Int32) (v325 : Int32) (v326 : Int32) (h : K327 f321 f322 f323 v324 v325 v326 = some z286) (H : Heap) (locs : List Loc) (hS : St D s H locs) (hF : Off (fun a => a = x0r0 ∨ a = x0r0r0 ∨ a = x0r0r1 ∨ a = x0r0r2) s.heap H) (h_x0 : OA D 1 x0 [.ref x0r0] H) (h_x0r0 : ON D 0 x0r0 [.ref x0r0r0, .ref x0r0r1, .ref x0r0r2, .int v324, .int v325, .int v326, .int v47] H) (h_x0r0r0 : aD D x0r0r0 8 f321 H) (h_x0r0r1 : aD D x0r0r1 8 f322 H) (h_x0r0r2 : aZ D x0r0r2 8 f323 H) (h_x1 : aI D x1 x1n x1c H) (ls : Array Slot) (hl : lv_has ls 8 [(0, .ref x0), (1, .ref x1), (2, .int v48), (4, .int o290), (5, .int o292), (6, .int o294), (7, .int v304)]), W p l e R_X0_holds s m A below meth c H locs (cl + 16076) (sl + 168574) Q (F0 m 256 ls []) := by
                      intro f321 f322 f323 v324 v325 v326 h H locs hS hF h_x0 h_x0r0 h_x0r0r0 h_x0r0r1 h_x0r0r2 h_x1 ls hl
                      subst eK327
                      refine lv_iload hx hb dX0_holds_256 (lv_at hl 6 rfl) ?_
                      refine lv_iconst (v := 3) hx hb dX0_holds_258 (by decide) ?_
                      obtain ⟨K334, eK334, h⟩ := lt_step h
                      have HK334 : ∀ (f328 : Nat → UInt64) (f329 : Nat → UInt64) (f330 : Nat → Int32) (v331 : Int32) (v332 : Int32) (v333 : Int32) (h : K334 f328 f329 f330 v331 v332 v333 = some z286) (H : Heap) (locs : List Loc) (hS : St D s H locs) (hF : Off (fun a => a = x0r0 ∨ a = x0r0r0 ∨ a = x0r0r1 ∨ a = x0r0r2) s.heap H) (h_x0 : OA D 1 x0 [.ref x0r0] H) (h_x0r0 : ON D 0 x0r0 [.ref x0r0r0, .ref x0r0r1, .ref x0r0r2, .int v331, .int v332, .int v333, .int v47] H) (h_x0r0r0 : aD D x0r0r0 8 f328 H) (h_x0r0r1 : aD D x0r0r1 8 f329 H) (h_x0r0r2 : aZ D x0r0r2 8 f330 H) (h_x1 : aI D x1 x1n x1c H) (ls : Array Slot) (hl : lv_has ls 8 [(0, .ref x0), (1, .ref x1), (2, .int v48), (4, .int o290), (5, .int o292), (6, .int o294), (7, .int v304)]), W p l e R_X0_holds s m A below meth c H locs (cl + 18714) (sl + 197408) Q (F0 m 282 ls []) := by
                        intro f328 f329 f330 v331 v332 v333 h H locs hS hF h_x0 h_x0r0 h_x0r0r0 h_x0r0r1 h_x0r0r2 h_x1 ls hl
                        subst eK334
                        refine lv_iload hx hb dX0_holds_282 (lv_at hl 6 rfl) ?_
                        refine lv_iconst (v := 4) hx hb dX0_holds_284 (by decide) ?_
                        obtain ⟨K340, eK340, h⟩ := lt_step h
                        have HK340 : ∀ (f335 : Nat → UInt64) (f336 : Nat → UInt64) (f337 : Nat → Int32) (v338 : Int32) (v339 : Int32) (h : K340 f335 f336 f337 v338 v339 = some z286) (H : Heap) (locs : List Loc) (hS : St D s H locs) (hF : Off (fun a => a = x0r0 ∨ a = x0r0r0 ∨ a = x0r0r1 ∨ a = x0r0r2) s.heap H) (h_x0 : OA D 1 x0 [.ref x0r0] H) (h_x0r0 : ON D 0 x0r0 [.ref x0r0r0, .ref x0r0r1, .ref x0r0r2, .int v338, .int v339, .int v333, .int v47] H) (h_x0r0r0 : aD D x0r0r0 8 f335 H) (h_x0r0r1 : aD D x0r0r1 8 f336 H) (h_x0r0r2 : aZ D x0r0r2 8 f337 H) (h_x1 : aI D x1 x1n x1c H) (ls : Array Slot) (hl : lv_has ls 8 [(0, .ref x0), (1, .ref x1), (2, .int v48), (4, .int o290), (7, .int v304)]), W p l e R_X0_holds s m A below meth c H locs (cl + 26682) (sl + 279377) Q (F0 m 306 ls []) := by
                          intro f335 f336 f337 v338 v339 h H locs hS hF h_x0 h_x0r0 h_x0r0r0 h_x0r0r1 h_x0r0r2 h_x1 ls hl
                          subst eK340
                          refine lv_iload hx hb dX0_holds_306 (lv_at hl 4 rfl) ?_
                          refine lv_iconst (v := 5) hx hb dX0_holds_308 (by decide) ?_
                          obtain ⟨K343, eK343, h⟩ := lt_step h
                          have HK343 : ∀ (f341 : Nat → UInt64) (v342 : Int32) (h : K343 f341 v342 = some z286) (H : Heap) (locs : List Loc) (hS : St D s H locs) (hF : Off (fun a => a = x0r0 ∨ a = x0r0r0 ∨ a = x0r0r1 ∨ a = x0r0r2) s.heap H) (h_x0 : OA D 1 x0 [.ref x0r0] H) (h_x0r0 : ON D 0 x0r0 [.ref x0r0r0, .ref x0r0r1, .ref x0r0r2, .int v338, .int v342, .int v333, .int v47] H) (h_x0r0r0 : aD D x0r0r0 8 f335 H) (h_x0r0r1 : aD D x0r0r1 8 f341 H) (h_x0r0r2 : aZ D x0r0r2 8 f337 H) (h_x1 : aI D x1 x1n x1c H) (ls : Array Slot) (hl : lv_has ls 8 [(0, .ref x0), (1, .ref x1), (2, .int v48)]), W p l e R_X0_holds s m A below meth c H locs (cl + 93117) (sl + 808345) Q (F0 m 321 ls []) := by
                            intro f341 v342 h H locs hS hF h_x0 h_x0r0 h_x0r0r0 h_x0r0r1 h_x0r0r2 h_x1 ls hl
                            subst eK343
                            refine lv_iload_n hx hb dX0_holds_321 rfl (lv_at hl 2 rfl) ?_
                            refine lv_bipush (v := 12) hx hb dX0_holds_322 (by decide) ?_
                            obtain ⟨K345, eK345, h⟩ := lt_step h
                            have HK345 : ∀ (v344 : Int32) (h : K345 v344 = some z286) (H : Heap) (locs : List Loc) (hS : St D s H locs) (hF : Off (fun a => a = x0r0 ∨ a = x0r0r0 ∨ a = x0r0r1 ∨ a = x0r0r2) s.heap H) (h_x0 : OA D 1 x0 [.ref x0r0] H) (h_x0r0 : ON D 0 x0r0 [.ref x0r0r0, .ref x0r0r1, .ref x0r0r2, .int v338, .int v342, .int v333, .int v344] H) (h_x0r0r0 : aD D x0r0r0 8 f335 H) (h_x0r0r1 : aD D x0r0r1 8 f341 H) (h_x0r0r2 : aZ D x0r0r2 8 f337 H) (h_x1 : aI D x1 x1n x1c H) (ls : Array Slot) (hl : lv_has ls 8 [(0, .ref x0), (1, .ref x1), (2, .int v48)]), W p l e R_X0_holds s m A below meth c H locs (cl + 97475) (sl + 839569) Q (F0 m 343 ls []) := by
                              intro v344 h H locs hS hF h_x0 h_x0r0 h_x0r0r0 h_x0r0r1 h_x0r0r2 h_x1 ls hl
                              subst eK345
                              obtain ⟨v346, ev346, h⟩ := lti_step h
                              refine lv_iinc (v := v346) (lv' := [(2, .int v346), (0, .ref x0), (1, .ref x1)]) hx hb dX0_holds_343 hl (k := 2) rfl (by rw [ev346]; rfl) (by decide) rfl (fun ls hl => ?_)
                              refine lv_goto (tgt := 91) hx hb dX0_holds_346 (by decide) ?_
                              obtain rfl := Option.some.inj h
                              exact ih f335 f341 f337 v338 v342 v333 v344 v346 w285 hk _ _ (hcN 97475 (Nat.le_of_ble_eq_true rfl)) (hsN 839569 (Nat.le_of_ble_eq_true rfl)) H locs hS hF h_x0 h_x0r0 h_x0r0r0 h_x0r0r1 h_x0r0r2 h_x1 ls (lv_sub hl [1, 2, 0] rfl) KR
                            clear eK345
                            refine lv_icmp_ne (tgt := 343) hx hb dX0_holds_324 (by decide) (fun c347 => ?_) (fun c347 => ?_)
                            · have h := it_neg h c347
                              refine W.widen (k := cl + 97475) (n := sl + 839569) (by omega) (by omega) ?_
                              exact HK345 v47 h H locs hS hF h_x0 h_x0r0 h_x0r0r0 h_x0r0r1 h_x0r0r2 h_x1 ls (lv_sub hl [0, 1, 2] rfl)
                            · have h := it_pos h c347
                              refine lv_aload_n hx hb dX0_holds_327 rfl (lv_at hl 0 rfl) ?_
                              obtain ⟨o348, eo348, h⟩ := bind_step h
                              refine r_cz (r_runV (rest := []) (As := []) hC 0 (m_X0_isSummed x0 x0r0 x0r0r0 x0r0r1 x0r0r2  f335 f341 f337 v338 v342 v333 v47 o348 eo348) q1759 q1761 qs38 q39 q1762 (OA.recv hS h_x0 (C := RX0) rfl) hd_X0_isSummed rfl ⟨Nat.le_of_ble_eq_true rfl, Nat.le_of_ble_eq_true rfl⟩ hS ⟨h_x0, h_x0r0, hB_h_x0r0, h_x0r0r0, h_x0r0r1, h_x0r0r2, ne_x0_x0r0, ne_x0r0_x0r0r0, ne_x0r0_x0r0r1, ne_x0r0_x0r0r2⟩ hl.1 rfl (Nat.le_of_ble_eq_true rfl) dX0_holds_328 ⟨by have := hcE; have := hsE; omega, by have := hcE; have := hsE; omega⟩) hS (fun b H locs hp hS hz => ?_)
                              obtain ⟨rfl, h_x0r0, hO⟩ := hp
                              have h_x0 := h_x0.off hO ne_x0_x0r0
                              have h_x0r0r0 := h_x0r0r0.off hO (Ne.symm ne_x0r0_x0r0r0)
                              have h_x0r0r1 := h_x0r0r1.off hO (Ne.symm ne_x0r0_x0r0r1)
                              have h_x0r0r2 := h_x0r0r2.off hO (Ne.symm ne_x0r0_x0r0r2)
                              have h_x1 := h_x1.off hO (Ne.symm ne_x0r0_x1)
                              have hF := hF.fresh hO (fun a ha z => Or.inl z)
                              refine r_ifz_eq (tgt := 341) hx hb dX0_holds_331 (by decide) (fun c349 => ?_) (fun c349 => ?_)
                              · have h := it_neg h (by rw [c349]; decide)
                                refine lv_iconst (v := 0) hx hb dX0_holds_341 (by decide) ?_
                                obtain rfl := Option.some.inj h
                                have h := congrArg some (KR _ hk.symm)
                                refine W.widen (k := CE) (n := SE) (by omega) (by omega) ?_
                                obtain rfl := Option.some.inj h
                                rw [eQ]
                                exact r_zret hx hb hr hlk hS (by decide) hCE hSE dX0_holds_342 ⟨_, rfl, rfl, h_x0r0, h_x0r0r0, h_x0r0r1, h_x0r0r2, hF⟩
                              · have h := it_pos h (by rw [c349])
                                refine lv_aload_n hx hb dX0_holds_334 rfl (lv_at hl 0 rfl) ?_
                                obtain ⟨o350, eo350, h⟩ := bind_step h
                                refine r_cz (r_runV (rest := []) (As := []) hC 0 (m_X0_isOut hfl x0 x0r0 x0r0r0 x0r0r1 x0r0r2  f335 f341 f337 v338 v342 v333 o348.2 o350 eo350) q1252 q1254 qs17 q39 q1255 (OA.recv hS h_x0 (C := RX0) rfl) hd_X0_isOut rfl ⟨Nat.le_of_ble_eq_true rfl, Nat.le_of_ble_eq_true rfl⟩ hS ⟨h_x0, h_x0r0, h_x0r0r0, h_x0r0r1, h_x0r0r2⟩ hl.1 rfl (Nat.le_of_ble_eq_true rfl) dX0_holds_335 ⟨by have := hcE; have := hsE; omega, by have := hcE; have := hsE; omega⟩) hS (fun b H locs hp hS hz => ?_)
                                obtain ⟨eb_, hO⟩ := hp
                                rw [eb_]
                                have h_x0 := h_x0.ext hO
                                have h_x0r0 := h_x0r0.ext hO
                                have h_x0r0r0 := h_x0r0r0.ext hO
                                have h_x0r0r1 := h_x0r0r1.ext hO
                                have h_x0r0r2 := h_x0r0r2.ext hO
                                have h_x1 := h_x1.ext hO
                                have hF := hF.trans (hO.mono (fun _ _ z => z.elim))
                                refine r_ifz_ne (tgt := 343) hx hb dX0_holds_338 (by decide) (fun c351 => ?_) (fun c351 => ?_)
                                · have h := it_pos h (by rw [c351])
                                  exact HK345 o348.2 h H locs hS hF h_x0 h_x0r0 h_x0r0r0 h_x0r0r1 h_x0r0r2 h_x1 ls (lv_sub hl [0, 1, 2] rfl)
                                · have h := it_neg h (by rw [c351]; decide)
                                  refine lv_iconst (v := 0) hx hb dX0_holds_341 (by decide) ?_
                                  obtain rfl := Option.some.inj h
                                  have h := congrArg some (KR _ hk.symm)
                                  refine W.widen (k := CE) (n := SE) (by omega) (by omega) ?_
                                  obtain rfl := Option.some.inj h
                                  rw [eQ]
                                  exact r_zret hx hb hr hlk hS (by decide) hCE hSE dX0_holds_342 ⟨_, rfl, rfl, h_x0r0, h_x0r0r0, h_x0r0r1, h_x0r0r2, hF⟩
                          clear eK343
                          refine lv_icmp_ne (tgt := 321) hx hb dX0_holds_309 (by decide) (fun c352 => ?_) (fun c352 => ?_)
                          · have h := it_neg h c352
                            refine W.widen (k := cl + 93117) (n := sl + 808345) (by omega) (by omega) ?_
                            exact HK343 f336 v339 h H locs hS hF h_x0 h_x0r0 h_x0r0r0 h_x0r0r1 h_x0r0r2 h_x1 ls (lv_sub hl [0, 1, 2] rfl)
                          · have h := it_pos h c352
                            refine lv_aload_n hx hb dX0_holds_312 rfl (lv_at hl 0 rfl) ?_
                            refine lv_iload hx hb dX0_holds_313 (lv_at hl 3 rfl) ?_
                            obtain ⟨o353, eo353, h⟩ := bind_step h
                            refine r_cz (r_runV (rest := []) (As := [.int o290]) hC 1 (m_X0_areOrdered x0 x0r0 x0r0r0 x0r0r1 x0r0r2  f335 f336 f337 v338 v339 v333 v47 o290 o353 eo353) q1724 q1726 qs35 q39 q1727 (OA.recv hS h_x0 (C := RX0) rfl) hd_X0_areOrdered rfl ⟨Nat.le_of_ble_eq_true rfl, Nat.le_of_ble_eq_true rfl⟩ hS ⟨h_x0, h_x0r0, hB_h_x0r0, h_x0r0r0, h_x0r0r1, hB_h_x0r0r1, h_x0r0r2, ne_x0_x0r0, ne_x0_x0r0r1, ne_x0r0_x0r0r0, ne_x0r0_x0r0r1, ne_x0r0_x0r0r2, ne_x0r0r0_x0r0r1, ne_x0r0r1_x0r0r2⟩ hl.1 rfl (Nat.le_of_ble_eq_true rfl) dX0_holds_315 ⟨by have := hcE; have := hsE; omega, by have := hcE; have := hsE; omega⟩) hS (fun b H locs hp hS hz => ?_)
                            obtain ⟨rfl, h_x0r0, h_x0r0r1, hO⟩ := hp
                            have h_x0 := h_x0.off hO (fun z => by rcases z with z | z <;> first | exact ne_x0_x0r0 z | exact ne_x0_x0r0r1 z)
                            have h_x0r0r0 := h_x0r0r0.off hO (fun z => by rcases z with z | z <;> first | exact (Ne.symm ne_x0r0_x0r0r0) z | exact ne_x0r0r0_x0r0r1 z)
                            have h_x0r0r2 := h_x0r0r2.off hO (fun z => by rcases z with z | z <;> first | exact (Ne.symm ne_x0r0_x0r0r2) z | exact (Ne.symm ne_x0r0r1_x0r0r2) z)
                            have h_x1 := h_x1.off hO (fun z => by rcases z with z | z <;> first | exact (Ne.symm ne_x0r0_x1) z | exact (Ne.symm ne_x0r0r1_x1) z)
                            have hF := hF.fresh hO (fun a ha z => by
                              rcases z with z | z
                              · exact Or.inl z
                              · exact Or.inr (Or.inr (Or.inl z)))
                            refine r_ifz_eq (tgt := 341) hx hb dX0_holds_318 (by decide) (fun c354 => ?_) (fun c354 => ?_)
                            · have h := it_neg h (by rw [c354]; decide)
                              refine lv_iconst (v := 0) hx hb dX0_holds_341 (by decide) ?_
                              obtain rfl := Option.some.inj h
                              have h := congrArg some (KR _ hk.symm)
                              refine W.widen (k := CE) (n := SE) (by omega) (by omega) ?_
                              obtain rfl := Option.some.inj h
                              rw [eQ]
                              exact r_zret hx hb hr hlk hS (by decide) hCE hSE dX0_holds_342 ⟨_, rfl, rfl, h_x0r0, h_x0r0r0, h_x0r0r1, h_x0r0r2, hF⟩
                            · have h := it_pos h (by rw [c354])
                              exact HK343 o353.2.2 o353.2.1 h H locs hS hF h_x0 h_x0r0 h_x0r0r0 h_x0r0r1 h_x0r0r2 h_x1 ls (lv_sub hl [0, 1, 2] rfl)
                        clear eK340
                        refine lv_icmp_ne (tgt := 306) hx hb dX0_holds_285 (by decide) (fun c355 => ?_) (fun c355 => ?_)
                        · have h := it_neg h c355
                          refine W.widen (k := cl + 26682) (n := sl + 279377) (by omega) (by omega) ?_
                          exact HK340 f328 f329 f330 v331 v332 h H locs hS hF h_x0 h_x0r0 h_x0r0r0 h_x0r0r1 h_x0r0r2 h_x1 ls (lv_sub hl [0, 1, 2, 3, 6] rfl)
                        · have h := it_pos h c355
                          refine lv_aload_n hx hb dX0_holds_288 rfl (lv_at hl 0 rfl) ?_
                          obtain ⟨o356, eo356, h⟩ := bind_step h
                          refine r_cz (r_runV (rest := []) (As := []) hC 0 (m_X0_isSorted x0 x0r0 x0r0r0 x0r0r1 x0r0r2  f328 f329 f330 v331 v332 v333 v47 o356 eo356) q1605 q1607 qs33 q39 q1608 (OA.recv hS h_x0 (C := RX0) rfl) hd_X0_isSorted rfl ⟨Nat.le_of_ble_eq_true rfl, Nat.le_of_ble_eq_true rfl⟩ hS ⟨h_x0, h_x0r0, hB_h_x0r0, h_x0r0r0, hB_h_x0r0r0, h_x0r0r1, h_x0r0r2, hB_h_x0r0r2, ne_x0_x0r0, ne_x0_x0r0r0, ne_x0_x0r0r2, ne_x0r0_x0r0r0, ne_x0r0_x0r0r1, ne_x0r0_x0r0r2, ne_x0r0r0_x0r0r1, ne_x0r0r0_x0r0r2, ne_x0r0r1_x0r0r2⟩ hl.1 rfl (Nat.le_of_ble_eq_true rfl) dX0_holds_289 ⟨by have := hcE; have := hsE; omega, by have := hcE; have := hsE; omega⟩) hS (fun b H locs hp hS hz => ?_)
                          obtain ⟨rfl, h_x0r0, h_x0r0r0, h_x0r0r2, hO⟩ := hp
                          have h_x0 := h_x0.off hO (fun z => by rcases z with z | z | z <;> first | exact ne_x0_x0r0 z | exact ne_x0_x0r0r0 z | exact ne_x0_x0r0r2 z)
                          have h_x0r0r1 := h_x0r0r1.off hO (fun z => by rcases z with z | z | z <;> first | exact (Ne.symm ne_x0r0_x0r0r1) z | exact (Ne.symm ne_x0r0r0_x0r0r1) z | exact ne_x0r0r1_x0r0r2 z)
                          have h_x1 := h_x1.off hO (fun z => by rcases z with z | z | z <;> first | exact (Ne.symm ne_x0r0_x1) z | exact (Ne.symm ne_x0r0r0_x1) z | exact (Ne.symm ne_x0r0r2_x1) z)
                          have hF := hF.fresh hO (fun a ha z => by
                            rcases z with z | z | z
                            · exact Or.inl z
                            · exact Or.inr (Or.inl z)
                            · exact Or.inr (Or.inr (Or.inr (z))))
                          refine r_ifz_eq (tgt := 341) hx hb dX0_holds_292 (by decide) (fun c357 => ?_) (fun c357 => ?_)
                          · have h := it_neg h (by rw [c357]; decide)
                            refine lv_iconst (v := 0) hx hb dX0_holds_341 (by decide) ?_
                            obtain rfl := Option.some.inj h
                            have h := congrArg some (KR _ hk.symm)
                            refine W.widen (k := CE) (n := SE) (by omega) (by omega) ?_
                            obtain rfl := Option.some.inj h
                            rw [eQ]
                            exact r_zret hx hb hr hlk hS (by decide) hCE hSE dX0_holds_342 ⟨_, rfl, rfl, h_x0r0, h_x0r0r0, h_x0r0r1, h_x0r0r2, hF⟩
                          · have h := it_pos h (by rw [c357])
                            refine lv_aload_n hx hb dX0_holds_295 rfl (lv_at hl 0 rfl) ?_
                            refine lv_iload hx hb dX0_holds_296 (lv_at hl 4 rfl) ?_
                            refine lv_iload hx hb dX0_holds_298 (lv_at hl 5 rfl) ?_
                            obtain ⟨o358, eo358, h⟩ := bind_step h
                            refine r_cz (r_runV (rest := []) (As := [.int o292, .int o294]) hC 2 (m_X0_areRows x0 x0r0 x0r0r0 x0r0r1 x0r0r2  o356.2.2.1 f329 o356.2.2.2 o356.2.1 v332 v333 v47 o292 o294 o358 eo358) q1707 q1709 qs34 q39 q1710 (OA.recv hS h_x0 (C := RX0) rfl) hd_X0_areRows rfl ⟨Nat.le_of_ble_eq_true rfl, Nat.le_of_ble_eq_true rfl⟩ hS ⟨h_x0, h_x0r0, hB_h_x0r0, h_x0r0r0, hB_h_x0r0r0, h_x0r0r1, hB_h_x0r0r1, h_x0r0r2, hB_h_x0r0r2, ne_x0_x0r0, ne_x0_x0r0r0, ne_x0_x0r0r1, ne_x0_x0r0r2, ne_x0r0_x0r0r0, ne_x0r0_x0r0r1, ne_x0r0_x0r0r2, ne_x0r0r0_x0r0r1, ne_x0r0r0_x0r0r2, ne_x0r0r1_x0r0r2⟩ hl.1 rfl (Nat.le_of_ble_eq_true rfl) dX0_holds_300 ⟨by have := hcE; have := hsE; omega, by have := hcE; have := hsE; omega⟩) hS (fun b H locs hp hS hz => ?_)
                            obtain ⟨rfl, h_x0r0, h_x0r0r0, h_x0r0r1, h_x0r0r2, hO⟩ := hp
                            have h_x0 := h_x0.off hO (fun z => by rcases z with z | z | z | z <;> first | exact ne_x0_x0r0 z | exact ne_x0_x0r0r0 z | exact ne_x0_x0r0r1 z | exact ne_x0_x0r0r2 z)
                            have h_x1 := h_x1.off hO (fun z => by rcases z with z | z | z | z <;> first | exact (Ne.symm ne_x0r0_x1) z | exact (Ne.symm ne_x0r0r0_x1) z | exact (Ne.symm ne_x0r0r1_x1) z | exact (Ne.symm ne_x0r0r2_x1) z)
                            have hF := hF.fresh hO (fun a ha z => by
                              rcases z with z | z | z | z
                              · exact Or.inl z
                              · exact Or.inr (Or.inl z)
                              · exact Or.inr (Or.inr (Or.inl z))
                              · exact Or.inr (Or.inr (Or.inr (z))))
                            refine r_ifz_eq (tgt := 341) hx hb dX0_holds_303 (by decide) (fun c359 => ?_) (fun c359 => ?_)
                            · have h := it_neg h (by rw [c359]; decide)
                              refine lv_iconst (v := 0) hx hb dX0_holds_341 (by decide) ?_
                              obtain rfl := Option.some.inj h
                              have h := congrArg some (KR _ hk.symm)
                              refine W.widen (k := CE) (n := SE) (by omega) (by omega) ?_
                              obtain rfl := Option.some.inj h
                              rw [eQ]
                              exact r_zret hx hb hr hlk hS (by decide) hCE hSE dX0_holds_342 ⟨_, rfl, rfl, h_x0r0, h_x0r0r0, h_x0r0r1, h_x0r0r2, hF⟩
                            · have h := it_pos h (by rw [c359])
                              exact HK340 o358.2.2.2.1 o358.2.2.2.2.1 o358.2.2.2.2.2 o358.2.1 o358.2.2.1 h H locs hS hF h_x0 h_x0r0 h_x0r0r0 h_x0r0r1 h_x0r0r2 h_x1 ls (lv_sub hl [0, 1, 2, 3, 6] rfl)
                      clear eK334
                      refine lv_icmp_ne (tgt := 282) hx hb dX0_holds_259 (by decide) (fun c360 => ?_) (fun c360 => ?_)
                      · have h := it_neg h c360
                        refine W.widen (k := cl + 18714) (n := sl + 197408) (by omega) (by omega) ?_
                        exact HK334 f321 f322 f323 v324 v325 v326 h H locs hS hF h_x0 h_x0r0 h_x0r0r0 h_x0r0r1 h_x0r0r2 h_x1 ls (lv_sub hl [0, 1, 2, 3, 4, 5, 6] rfl)
                      · have h := it_pos h c360
                        refine lv_aload_n hx hb dX0_holds_262 rfl (lv_at hl 0 rfl) ?_
                        refine lv_iconst (v := 2) hx hb dX0_holds_263 (by decide) ?_
                        refine lv_iconst (v := 3) hx hb dX0_holds_264 (by decide) ?_
                        obtain ⟨o361, eo361, h⟩ := bind_step h
                        refine r_cz (r_runV (rest := []) (As := [.int 2, .int 3]) hC 2 (m_X0_areSums x0 x0r0 x0r0r0 x0r0r1 x0r0r2  f321 f322 f323 v324 v325 v326 v47 2 3 o361 eo361) q1600 q1602 qs32 q39 q1603 (OA.recv hS h_x0 (C := RX0) rfl) hd_X0_areSums rfl ⟨Nat.le_of_ble_eq_true rfl, Nat.le_of_ble_eq_true rfl⟩ hS ⟨h_x0, h_x0r0, hB_h_x0r0, h_x0r0r0, hB_h_x0r0r0, h_x0r0r1, hB_h_x0r0r1, h_x0r0r2, hB_h_x0r0r2, ne_x0_x0r0, ne_x0_x0r0r0, ne_x0_x0r0r1, ne_x0_x0r0r2, ne_x0r0_x0r0r0, ne_x0r0_x0r0r1, ne_x0r0_x0r0r2, ne_x0r0r0_x0r0r1, ne_x0r0r0_x0r0r2, ne_x0r0r1_x0r0r2⟩ hl.1 rfl (Nat.le_of_ble_eq_true rfl) dX0_holds_265 ⟨by have := hcE; have := hsE; omega, by have := hcE; have := hsE; omega⟩) hS (fun b H locs hp hS hz => ?_)
                        obtain ⟨rfl, h_x0r0, h_x0r0r0, h_x0r0r1, h_x0r0r2, hO⟩ := hp
                        have h_x0 := h_x0.off hO (fun z => by rcases z with z | z | z | z <;> first | exact ne_x0_x0r0 z | exact ne_x0_x0r0r0 z | exact ne_x0_x0r0r1 z | exact ne_x0_x0r0r2 z)
                        have h_x1 := h_x1.off hO (fun z => by rcases z with z | z | z | z <;> first | exact (Ne.symm ne_x0r0_x1) z | exact (Ne.symm ne_x0r0r0_x1) z | exact (Ne.symm ne_x0r0r1_x1) z | exact (Ne.symm ne_x0r0r2_x1) z)
                        have hF := hF.fresh hO (fun a ha z => by
                          rcases z with z | z | z | z
                          · exact Or.inl z
                          · exact Or.inr (Or.inl z)
                          · exact Or.inr (Or.inr (Or.inl z))
                          · exact Or.inr (Or.inr (Or.inr (z))))
                        refine r_ifz_eq (tgt := 280) hx hb dX0_holds_268 (by decide) (fun c362 => ?_) (fun c362 => ?_)
                        · have h := it_neg h (by rw [c362]; decide)
                          refine lv_iconst (v := 0) hx hb dX0_holds_280 (by decide) ?_
                          obtain rfl := Option.some.inj h
                          have h := congrArg some (KR _ hk.symm)
                          refine W.widen (k := CE) (n := SE) (by omega) (by omega) ?_
                          obtain rfl := Option.some.inj h
                          rw [eQ]
                          exact r_zret hx hb hr hlk hS (by decide) hCE hSE dX0_holds_281 ⟨_, rfl, rfl, h_x0r0, h_x0r0r0, h_x0r0r1, h_x0r0r2, hF⟩
                        · have h := it_pos h (by rw [c362])
                          refine lv_aload_n hx hb dX0_holds_271 rfl (lv_at hl 0 rfl) ?_
                          refine lv_iconst (v := 3) hx hb dX0_holds_272 (by decide) ?_
                          refine lv_iconst (v := 4) hx hb dX0_holds_273 (by decide) ?_
                          obtain ⟨o363, eo363, h⟩ := bind_step h
                          refine r_cz (r_runV (rest := []) (As := [.int 3, .int 4]) hC 2 (m_X0_areSums x0 x0r0 x0r0r0 x0r0r1 x0r0r2  o361.2.2.2.2.1 o361.2.2.2.2.2.1 o361.2.2.2.2.2.2 o361.2.1 o361.2.2.1 o361.2.2.2.1 v47 3 4 o363 eo363) q1600 q1602 qs32 q39 q1603 (OA.recv hS h_x0 (C := RX0) rfl) hd_X0_areSums rfl ⟨Nat.le_of_ble_eq_true rfl, Nat.le_of_ble_eq_true rfl⟩ hS ⟨h_x0, h_x0r0, hB_h_x0r0, h_x0r0r0, hB_h_x0r0r0, h_x0r0r1, hB_h_x0r0r1, h_x0r0r2, hB_h_x0r0r2, ne_x0_x0r0, ne_x0_x0r0r0, ne_x0_x0r0r1, ne_x0_x0r0r2, ne_x0r0_x0r0r0, ne_x0r0_x0r0r1, ne_x0r0_x0r0r2, ne_x0r0r0_x0r0r1, ne_x0r0r0_x0r0r2, ne_x0r0r1_x0r0r2⟩ hl.1 rfl (Nat.le_of_ble_eq_true rfl) dX0_holds_274 ⟨by have := hcE; have := hsE; omega, by have := hcE; have := hsE; omega⟩) hS (fun b H locs hp hS hz => ?_)
                          obtain ⟨rfl, h_x0r0, h_x0r0r0, h_x0r0r1, h_x0r0r2, hO⟩ := hp
                          have h_x0 := h_x0.off hO (fun z => by rcases z with z | z | z | z <;> first | exact ne_x0_x0r0 z | exact ne_x0_x0r0r0 z | exact ne_x0_x0r0r1 z | exact ne_x0_x0r0r2 z)
                          have h_x1 := h_x1.off hO (fun z => by rcases z with z | z | z | z <;> first | exact (Ne.symm ne_x0r0_x1) z | exact (Ne.symm ne_x0r0r0_x1) z | exact (Ne.symm ne_x0r0r1_x1) z | exact (Ne.symm ne_x0r0r2_x1) z)
                          have hF := hF.fresh hO (fun a ha z => by
                            rcases z with z | z | z | z
                            · exact Or.inl z
                            · exact Or.inr (Or.inl z)
                            · exact Or.inr (Or.inr (Or.inl z))
                            · exact Or.inr (Or.inr (Or.inr (z))))
                          refine r_ifz_ne (tgt := 282) hx hb dX0_holds_277 (by decide) (fun c364 => ?_) (fun c364 => ?_)
                          · have h := it_pos h (by rw [c364])
                            exact HK334 o363.2.2.2.2.1 o363.2.2.2.2.2.1 o363.2.2.2.2.2.2 o363.2.1 o363.2.2.1 o363.2.2.2.1 h H locs hS hF h_x0 h_x0r0 h_x0r0r0 h_x0r0r1 h_x0r0r2 h_x1 ls (lv_sub hl [0, 1, 2, 3, 4, 5, 6] rfl)
                          · have h := it_neg h (by rw [c364]; decide)
                            refine lv_iconst (v := 0) hx hb dX0_holds_280 (by decide) ?_
                            obtain rfl := Option.some.inj h
                            have h := congrArg some (KR _ hk.symm)
                            refine W.widen (k := CE) (n := SE) (by omega) (by omega) ?_
                            obtain rfl := Option.some.inj h
                            rw [eQ]
                            exact r_zret hx hb hr hlk hS (by decide) hCE hSE dX0_holds_281 ⟨_, rfl, rfl, h_x0r0, h_x0r0r0, h_x0r0r1, h_x0r0r2, hF⟩
                    clear eK327
                    refine lv_icmp_ne (tgt := 256) hx hb dX0_holds_243 (by decide) (fun c365 => ?_) (fun c365 => ?_)
                    · have h := it_neg h c365
                      refine W.widen (k := cl + 16076) (n := sl + 168574) (by omega) (by omega) ?_
                      exact HK327 f314 f315 f316 v317 v318 v319 h H locs hS hF h_x0 h_x0r0 h_x0r0r0 h_x0r0r1 h_x0r0r2 h_x1 ls (lv_sub hl [0, 1, 2, 3, 4, 5, 6] rfl)
                    · have h := it_pos h c365
                      refine lv_aload_n hx hb dX0_holds_246 rfl (lv_at hl 0 rfl) ?_
                      refine lv_iconst (v := 4) hx hb dX0_holds_247 (by decide) ?_
                      refine lv_iload hx hb dX0_holds_248 (lv_at hl 3 rfl) ?_
                      obtain ⟨o366, eo366, h⟩ := bind_step h
                      refine r_cz (r_runV (rest := []) (As := [.int 4, .int o290]) hC 2 (m_X0_areAnswers x0 x0r0 x0r0r0 x0r0r1 x0r0r2  f314 f315 f316 v317 v318 v319 v47 4 o290 o366 eo366) q1540 q1542 qs30 q39 q1543 (OA.recv hS h_x0 (C := RX0) rfl) hd_X0_areAnswers rfl ⟨Nat.le_of_ble_eq_true rfl, Nat.le_of_ble_eq_true rfl⟩ hS ⟨h_x0, h_x0r0, hB_h_x0r0, h_x0r0r0, hB_h_x0r0r0, h_x0r0r1, hB_h_x0r0r1, h_x0r0r2, hB_h_x0r0r2, ne_x0_x0r0, ne_x0_x0r0r0, ne_x0_x0r0r1, ne_x0_x0r0r2, ne_x0r0_x0r0r0, ne_x0r0_x0r0r1, ne_x0r0_x0r0r2, ne_x0r0r0_x0r0r1, ne_x0r0r0_x0r0r2, ne_x0r0r1_x0r0r2⟩ hl.1 rfl (Nat.le_of_ble_eq_true rfl) dX0_holds_250 ⟨by have := hcE; have := hsE; omega, by have := hcE; have := hsE; omega⟩) hS (fun b H locs hp hS hz => ?_)
                      obtain ⟨rfl, h_x0r0, h_x0r0r0, h_x0r0r1, h_x0r0r2, hO⟩ := hp
                      have h_x0 := h_x0.off hO (fun z => by rcases z with z | z | z | z <;> first | exact ne_x0_x0r0 z | exact ne_x0_x0r0r0 z | exact ne_x0_x0r0r1 z | exact ne_x0_x0r0r2 z)
                      have h_x1 := h_x1.off hO (fun z => by rcases z with z | z | z | z <;> first | exact (Ne.symm ne_x0r0_x1) z | exact (Ne.symm ne_x0r0r0_x1) z | exact (Ne.symm ne_x0r0r1_x1) z | exact (Ne.symm ne_x0r0r2_x1) z)
                      have hF := hF.fresh hO (fun a ha z => by
                        rcases z with z | z | z | z
                        · exact Or.inl z
                        · exact Or.inr (Or.inl z)
                        · exact Or.inr (Or.inr (Or.inl z))
                        · exact Or.inr (Or.inr (Or.inr (z))))
                      refine r_ifz_eq (tgt := 280) hx hb dX0_holds_253 (by decide) (fun c367 => ?_) (fun c367 => ?_)
                      · have h := it_neg h (by rw [c367]; decide)
                        refine lv_iconst (v := 0) hx hb dX0_holds_280 (by decide) ?_
                        obtain rfl := Option.some.inj h
                        have h := congrArg some (KR _ hk.symm)
                        refine W.widen (k := CE) (n := SE) (by omega) (by omega) ?_
                        obtain rfl := Option.some.inj h
                        rw [eQ]
                        exact r_zret hx hb hr hlk hS (by decide) hCE hSE dX0_holds_281 ⟨_, rfl, rfl, h_x0r0, h_x0r0r0, h_x0r0r1, h_x0r0r2, hF⟩
                      · have h := it_pos h (by rw [c367])
                        exact HK327 o366.2.2.2.2.1 o366.2.2.2.2.2.1 o366.2.2.2.2.2.2 o366.2.1 o366.2.2.1 o366.2.2.2.1 h H locs hS hF h_x0 h_x0r0 h_x0r0r0 h_x0r0r1 h_x0r0r2 h_x1 ls (lv_sub hl [0, 1, 2, 3, 4, 5, 6] rfl)
                  clear eK320
                  refine lv_icmp_ne (tgt := 240) hx hb dX0_holds_228 (by decide) (fun c368 => ?_) (fun c368 => ?_)
                  · have h := it_neg h c368
                    refine W.widen (k := cl + 13080) (n := sl + 136366) (by omega) (by omega) ?_
                    exact HK320 f310 f42 f311 v312 v45 v308 h H locs hS hF h_x0 h_x0r0 h_x0r0r0 h_x0r0r1 h_x0r0r2 h_x1 ls (lv_sub hl [0, 1, 2, 4, 5, 6, 7] rfl)
                  · have h := it_pos h c368
                    refine lv_aload_n hx hb dX0_holds_231 rfl (lv_at hl 0 rfl) ?_
                    refine lv_iconst (v := 2) hx hb dX0_holds_232 (by decide) ?_
                    refine lv_iload_n hx hb dX0_holds_233 rfl (lv_at hl 3 rfl) ?_
                    obtain ⟨o369, eo369, h⟩ := bind_step h
                    refine r_cz (r_runV (rest := []) (As := [.int 2, .int o288]) hC 2 (m_X0_areAnswers x0 x0r0 x0r0r0 x0r0r1 x0r0r2  f310 f42 f311 v312 v45 v308 v47 2 o288 o369 eo369) q1540 q1542 qs30 q39 q1543 (OA.recv hS h_x0 (C := RX0) rfl) hd_X0_areAnswers rfl ⟨Nat.le_of_ble_eq_true rfl, Nat.le_of_ble_eq_true rfl⟩ hS ⟨h_x0, h_x0r0, hB_h_x0r0, h_x0r0r0, hB_h_x0r0r0, h_x0r0r1, hB_h_x0r0r1, h_x0r0r2, hB_h_x0r0r2, ne_x0_x0r0, ne_x0_x0r0r0, ne_x0_x0r0r1, ne_x0_x0r0r2, ne_x0r0_x0r0r0, ne_x0r0_x0r0r1, ne_x0r0_x0r0r2, ne_x0r0r0_x0r0r1, ne_x0r0r0_x0r0r2, ne_x0r0r1_x0r0r2⟩ hl.1 rfl (Nat.le_of_ble_eq_true rfl) dX0_holds_234 ⟨by have := hcE; have := hsE; omega, by have := hcE; have := hsE; omega⟩) hS (fun b H locs hp hS hz => ?_)
                    obtain ⟨rfl, h_x0r0, h_x0r0r0, h_x0r0r1, h_x0r0r2, hO⟩ := hp
                    have h_x0 := h_x0.off hO (fun z => by rcases z with z | z | z | z <;> first | exact ne_x0_x0r0 z | exact ne_x0_x0r0r0 z | exact ne_x0_x0r0r1 z | exact ne_x0_x0r0r2 z)
                    have h_x1 := h_x1.off hO (fun z => by rcases z with z | z | z | z <;> first | exact (Ne.symm ne_x0r0_x1) z | exact (Ne.symm ne_x0r0r0_x1) z | exact (Ne.symm ne_x0r0r1_x1) z | exact (Ne.symm ne_x0r0r2_x1) z)
                    have hF := hF.fresh hO (fun a ha z => by
                      rcases z with z | z | z | z
                      · exact Or.inl z
                      · exact Or.inr (Or.inl z)
                      · exact Or.inr (Or.inr (Or.inl z))
                      · exact Or.inr (Or.inr (Or.inr (z))))
                    refine r_ifz_eq (tgt := 280) hx hb dX0_holds_237 (by decide) (fun c370 => ?_) (fun c370 => ?_)
                    · have h := it_neg h (by rw [c370]; decide)
                      refine lv_iconst (v := 0) hx hb dX0_holds_280 (by decide) ?_
                      obtain rfl := Option.some.inj h
                      have h := congrArg some (KR _ hk.symm)
                      refine W.widen (k := CE) (n := SE) (by omega) (by omega) ?_
                      obtain rfl := Option.some.inj h
                      rw [eQ]
                      exact r_zret hx hb hr hlk hS (by decide) hCE hSE dX0_holds_281 ⟨_, rfl, rfl, h_x0r0, h_x0r0r0, h_x0r0r1, h_x0r0r2, hF⟩
                    · have h := it_pos h (by rw [c370])
                      exact HK320 o369.2.2.2.2.1 o369.2.2.2.2.2.1 o369.2.2.2.2.2.2 o369.2.1 o369.2.2.1 o369.2.2.2.1 h H locs hS hF h_x0 h_x0r0 h_x0r0r0 h_x0r0r1 h_x0r0r2 h_x1 ls (lv_sub hl [0, 1, 2, 4, 5, 6, 7] rfl)
                clear eK313
                refine lv_if_le (tgt := 225) hx hb dX0_holds_180 (by decide) (fun c371 => ?_) (fun c371 => ?_)
                · have h := it_pos h c371
                  refine W.widen (k := cl + 10084) (n := sl + 104158) (by omega) (by omega) ?_
                  exact HK313 f305 f306 v307 h H locs hS hF h_x0 h_x0r0 h_x0r0r0 h_x0r0r1 h_x0r0r2 h_x1 ls (lv_sub hl [0, 1, 2, 3, 4, 5, 6, 7] rfl)
                · have h := it_neg h c371
                  refine lv_iload hx hb dX0_holds_183 (lv_at hl 7 rfl) ?_
                  refine lv_iconst (v := 4) hx hb dX0_holds_185 (by decide) ?_
                  refine lv_icmp_ge (tgt := 225) hx hb dX0_holds_186 (by decide) (fun c372 => ?_) (fun c372 => ?_)
                  · have h := it_pos h c372
                    refine W.widen (k := cl + 10084) (n := sl + 104158) (by omega) (by omega) ?_
                    exact HK313 f305 f306 v307 h H locs hS hF h_x0 h_x0r0 h_x0r0r0 h_x0r0r1 h_x0r0r2 h_x1 ls (lv_sub hl [0, 1, 2, 3, 4, 5, 6, 7] rfl)
                  · have h := it_neg h c372
                    refine lv_aload_n hx hb dX0_holds_189 rfl (lv_at hl 0 rfl) ?_
                    refine lv_iconst (v := 2) hx hb dX0_holds_190 (by decide) ?_
                    refine lv_iload hx hb dX0_holds_191 (lv_at hl 6 rfl) ?_
                    obtain ⟨o373, eo373, h⟩ := bind_step h
                    refine r_cz (r_runV (rest := []) (As := [.int 2, .int o294]) hC 2 (m_X0_puts x0 x0r0 x0r0r0 x0r0r1 x0r0r2  f305 f42 f306 v307 v45 v308 v47 2 o294 o373 eo373) q1492 q1494 qs29 q39 q1495 (OA.recv hS h_x0 (C := RX0) rfl) hd_X0_puts rfl ⟨Nat.le_of_ble_eq_true rfl, Nat.le_of_ble_eq_true rfl⟩ hS ⟨h_x0, h_x0r0, hB_h_x0r0, h_x0r0r0, hB_h_x0r0r0, h_x0r0r1, h_x0r0r2, hB_h_x0r0r2, ne_x0_x0r0, ne_x0_x0r0r0, ne_x0_x0r0r2, ne_x0r0_x0r0r0, ne_x0r0_x0r0r1, ne_x0r0_x0r0r2, ne_x0r0r0_x0r0r1, ne_x0r0r0_x0r0r2, ne_x0r0r1_x0r0r2⟩ hl.1 rfl (Nat.le_of_ble_eq_true rfl) dX0_holds_193 ⟨by have := hcE; have := hsE; omega, by have := hcE; have := hsE; omega⟩) hS (fun b H locs hp hS hz => ?_)
                    obtain ⟨rfl, h_x0r0, h_x0r0r0, h_x0r0r2, hO⟩ := hp
                    have h_x0 := h_x0.off hO (fun z => by rcases z with z | z | z <;> first | exact ne_x0_x0r0 z | exact ne_x0_x0r0r0 z | exact ne_x0_x0r0r2 z)
                    have h_x0r0r1 := h_x0r0r1.off hO (fun z => by rcases z with z | z | z <;> first | exact (Ne.symm ne_x0r0_x0r0r1) z | exact (Ne.symm ne_x0r0r0_x0r0r1) z | exact ne_x0r0r1_x0r0r2 z)
                    have h_x1 := h_x1.off hO (fun z => by rcases z with z | z | z <;> first | exact (Ne.symm ne_x0r0_x1) z | exact (Ne.symm ne_x0r0r0_x1) z | exact (Ne.symm ne_x0r0r2_x1) z)
                    have hF := hF.fresh hO (fun a ha z => by
                      rcases z with z | z | z
                      · exact Or.inl z
                      · exact Or.inr (Or.inl z)
                      · exact Or.inr (Or.inr (Or.inr (z))))
                    refine r_ifz_eq (tgt := 223) hx hb dX0_holds_196 (by decide) (fun c374 => ?_) (fun c374 => ?_)
                    · have h := it_neg h (by rw [c374]; decide)
                      refine lv_iconst (v := 0) hx hb dX0_holds_223 (by decide) ?_
                      obtain rfl := Option.some.inj h
                      have h := congrArg some (KR _ hk.symm)
                      refine W.widen (k := CE) (n := SE) (by omega) (by omega) ?_
                      obtain rfl := Option.some.inj h
                      rw [eQ]
                      exact r_zret hx hb hr hlk hS (by decide) hCE hSE dX0_holds_224 ⟨_, rfl, rfl, h_x0r0, h_x0r0r0, h_x0r0r1, h_x0r0r2, hF⟩
                    · have h := it_pos h (by rw [c374])
                      refine lv_aload_n hx hb dX0_holds_199 rfl (lv_at hl 0 rfl) ?_
                      refine lv_iconst (v := 3) hx hb dX0_holds_200 (by decide) ?_
                      refine lv_iload_n hx hb dX0_holds_201 rfl (lv_at hl 3 rfl) ?_
                      refine lv_iload hx hb dX0_holds_202 (lv_at hl 5 rfl) ?_
                      obtain ⟨v375, ev375, h⟩ := lti_step h
                      refine r_ixor hx hb ev375 dX0_holds_204 ?_
                      obtain ⟨o376, eo376, h⟩ := bind_step h
                      refine r_cz (r_runV (rest := []) (As := [.int 3, .int v375]) hC 2 (m_X0_puts x0 x0r0 x0r0r0 x0r0r1 x0r0r2  o373.2.2.1 f42 o373.2.2.2 o373.2.1 v45 v308 v47 3 v375 o376 eo376) q1492 q1494 qs29 q39 q1495 (OA.recv hS h_x0 (C := RX0) rfl) hd_X0_puts rfl ⟨Nat.le_of_ble_eq_true rfl, Nat.le_of_ble_eq_true rfl⟩ hS ⟨h_x0, h_x0r0, hB_h_x0r0, h_x0r0r0, hB_h_x0r0r0, h_x0r0r1, h_x0r0r2, hB_h_x0r0r2, ne_x0_x0r0, ne_x0_x0r0r0, ne_x0_x0r0r2, ne_x0r0_x0r0r0, ne_x0r0_x0r0r1, ne_x0r0_x0r0r2, ne_x0r0r0_x0r0r1, ne_x0r0r0_x0r0r2, ne_x0r0r1_x0r0r2⟩ hl.1 rfl (Nat.le_of_ble_eq_true rfl) dX0_holds_205 ⟨by have := hcE; have := hsE; omega, by have := hcE; have := hsE; omega⟩) hS (fun b H locs hp hS hz => ?_)
                      obtain ⟨rfl, h_x0r0, h_x0r0r0, h_x0r0r2, hO⟩ := hp
                      have h_x0 := h_x0.off hO (fun z => by rcases z with z | z | z <;> first | exact ne_x0_x0r0 z | exact ne_x0_x0r0r0 z | exact ne_x0_x0r0r2 z)
                      have h_x0r0r1 := h_x0r0r1.off hO (fun z => by rcases z with z | z | z <;> first | exact (Ne.symm ne_x0r0_x0r0r1) z | exact (Ne.symm ne_x0r0r0_x0r0r1) z | exact ne_x0r0r1_x0r0r2 z)
                      have h_x1 := h_x1.off hO (fun z => by rcases z with z | z | z <;> first | exact (Ne.symm ne_x0r0_x1) z | exact (Ne.symm ne_x0r0r0_x1) z | exact (Ne.symm ne_x0r0r2_x1) z)
                      have hF := hF.fresh hO (fun a ha z => by
                        rcases z with z | z | z
                        · exact Or.inl z
                        · exact Or.inr (Or.inl z)
                        · exact Or.inr (Or.inr (Or.inr (z))))
                      refine r_ifz_eq (tgt := 223) hx hb dX0_holds_208 (by decide) (fun c377 => ?_) (fun c377 => ?_)
                      · have h := it_neg h (by rw [c377]; decide)
                        refine lv_iconst (v := 0) hx hb dX0_holds_223 (by decide) ?_
                        obtain rfl := Option.some.inj h
                        have h := congrArg some (KR _ hk.symm)
                        refine W.widen (k := CE) (n := SE) (by omega) (by omega) ?_
                        obtain rfl := Option.some.inj h
                        rw [eQ]
                        exact r_zret hx hb hr hlk hS (by decide) hCE hSE dX0_holds_224 ⟨_, rfl, rfl, h_x0r0, h_x0r0r0, h_x0r0r1, h_x0r0r2, hF⟩
                      · have h := it_pos h (by rw [c377])
                        refine lv_aload_n hx hb dX0_holds_211 rfl (lv_at hl 0 rfl) ?_
                        refine lv_iconst (v := 4) hx hb dX0_holds_212 (by decide) ?_
                        refine lv_iload hx hb dX0_holds_213 (lv_at hl 4 rfl) ?_
                        refine lv_iconst (v := 1) hx hb dX0_holds_215 (by decide) ?_
                        obtain ⟨v378, ev378, h⟩ := lti_step h
                        refine r_ior hx hb ev378 dX0_holds_216 ?_
                        obtain ⟨o379, eo379, h⟩ := bind_step h
                        refine r_cz (r_runV (rest := []) (As := [.int 4, .int v378]) hC 2 (m_X0_puts x0 x0r0 x0r0r0 x0r0r1 x0r0r2  o376.2.2.1 f42 o376.2.2.2 o376.2.1 v45 v308 v47 4 v378 o379 eo379) q1492 q1494 qs29 q39 q1495 (OA.recv hS h_x0 (C := RX0) rfl) hd_X0_puts rfl ⟨Nat.le_of_ble_eq_true rfl, Nat.le_of_ble_eq_true rfl⟩ hS ⟨h_x0, h_x0r0, hB_h_x0r0, h_x0r0r0, hB_h_x0r0r0, h_x0r0r1, h_x0r0r2, hB_h_x0r0r2, ne_x0_x0r0, ne_x0_x0r0r0, ne_x0_x0r0r2, ne_x0r0_x0r0r0, ne_x0r0_x0r0r1, ne_x0r0_x0r0r2, ne_x0r0r0_x0r0r1, ne_x0r0r0_x0r0r2, ne_x0r0r1_x0r0r2⟩ hl.1 rfl (Nat.le_of_ble_eq_true rfl) dX0_holds_217 ⟨by have := hcE; have := hsE; omega, by have := hcE; have := hsE; omega⟩) hS (fun b H locs hp hS hz => ?_)
                        obtain ⟨rfl, h_x0r0, h_x0r0r0, h_x0r0r2, hO⟩ := hp
                        have h_x0 := h_x0.off hO (fun z => by rcases z with z | z | z <;> first | exact ne_x0_x0r0 z | exact ne_x0_x0r0r0 z | exact ne_x0_x0r0r2 z)
                        have h_x0r0r1 := h_x0r0r1.off hO (fun z => by rcases z with z | z | z <;> first | exact (Ne.symm ne_x0r0_x0r0r1) z | exact (Ne.symm ne_x0r0r0_x0r0r1) z | exact ne_x0r0r1_x0r0r2 z)
                        have h_x1 := h_x1.off hO (fun z => by rcases z with z | z | z <;> first | exact (Ne.symm ne_x0r0_x1) z | exact (Ne.symm ne_x0r0r0_x1) z | exact (Ne.symm ne_x0r0r2_x1) z)
                        have hF := hF.fresh hO (fun a ha z => by
                          rcases z with z | z | z
                          · exact Or.inl z
                          · exact Or.inr (Or.inl z)
                          · exact Or.inr (Or.inr (Or.inr (z))))
                        refine r_ifz_ne (tgt := 225) hx hb dX0_holds_220 (by decide) (fun c380 => ?_) (fun c380 => ?_)
                        · have h := it_pos h (by rw [c380])
                          exact HK313 o379.2.2.1 o379.2.2.2 o379.2.1 h H locs hS hF h_x0 h_x0r0 h_x0r0r0 h_x0r0r1 h_x0r0r2 h_x1 ls (lv_sub hl [0, 1, 2, 3, 4, 5, 6, 7] rfl)
                        · have h := it_neg h (by rw [c380]; decide)
                          refine lv_iconst (v := 0) hx hb dX0_holds_223 (by decide) ?_
                          obtain rfl := Option.some.inj h
                          have h := congrArg some (KR _ hk.symm)
                          refine W.widen (k := CE) (n := SE) (by omega) (by omega) ?_
                          obtain rfl := Option.some.inj h
                          rw [eQ]
                          exact r_zret hx hb hr hlk hS (by decide) hCE hSE dX0_holds_224 ⟨_, rfl, rfl, h_x0r0, h_x0r0r0, h_x0r0r1, h_x0r0r2, hF⟩
              clear eK309
              refine lv_if_ne (tgt := 178) hx hb dX0_holds_165 (by decide) (fun c381 => ?_) (fun c381 => ?_)
              · have h := it_neg h c381
                refine W.widen (k := cl + 7330) (n := sl + 74728) (by omega) (by omega) ?_
                exact HK309 f41 f43 v44 v46 h H locs hS hF h_x0 h_x0r0 h_x0r0r0 h_x0r0r1 h_x0r0r2 h_x1 ls (lv_sub hl [5, 6, 7, 4, 3, 2, 1, 0] rfl)
              · have h := it_pos h c381
                refine lv_aload_n hx hb dX0_holds_168 rfl (lv_at hl 5 rfl) ?_
                refine lv_iload_n hx hb dX0_holds_169 rfl (lv_at hl 4 rfl) ?_
                refine lv_iload hx hb dX0_holds_170 (lv_at hl 3 rfl) ?_
                obtain ⟨o382, eo382, h⟩ := bind_step h
                refine r_cz (r_runV (rest := []) (As := [.int o288, .int o290]) hC 2 (m_X0_areAngles x0 x0r0 x0r0r0 x0r0r1 x0r0r2  f41 f42 f43 v44 v45 v46 v47 o288 o290 o382 eo382) q1488 q1490 qs28 q39 q1491 (OA.recv hS h_x0 (C := RX0) rfl) hd_X0_areAngles rfl ⟨Nat.le_of_ble_eq_true rfl, Nat.le_of_ble_eq_true rfl⟩ hS ⟨h_x0, h_x0r0, hB_h_x0r0, h_x0r0r0, hB_h_x0r0r0, h_x0r0r1, h_x0r0r2, hB_h_x0r0r2, ne_x0_x0r0, ne_x0_x0r0r0, ne_x0_x0r0r2, ne_x0r0_x0r0r0, ne_x0r0_x0r0r1, ne_x0r0_x0r0r2, ne_x0r0r0_x0r0r1, ne_x0r0r0_x0r0r2, ne_x0r0r1_x0r0r2⟩ hl.1 rfl (Nat.le_of_ble_eq_true rfl) dX0_holds_172 ⟨by have := hcE; have := hsE; omega, by have := hcE; have := hsE; omega⟩) hS (fun b H locs hp hS hz => ?_)
                obtain ⟨rfl, h_x0r0, h_x0r0r0, h_x0r0r2, hO⟩ := hp
                have h_x0 := h_x0.off hO (fun z => by rcases z with z | z | z <;> first | exact ne_x0_x0r0 z | exact ne_x0_x0r0r0 z | exact ne_x0_x0r0r2 z)
                have h_x0r0r1 := h_x0r0r1.off hO (fun z => by rcases z with z | z | z <;> first | exact (Ne.symm ne_x0r0_x0r0r1) z | exact (Ne.symm ne_x0r0r0_x0r0r1) z | exact ne_x0r0r1_x0r0r2 z)
                have h_x1 := h_x1.off hO (fun z => by rcases z with z | z | z <;> first | exact (Ne.symm ne_x0r0_x1) z | exact (Ne.symm ne_x0r0r0_x1) z | exact (Ne.symm ne_x0r0r2_x1) z)
                have hF := hF.fresh hO (fun a ha z => by
                  rcases z with z | z | z
                  · exact Or.inl z
                  · exact Or.inr (Or.inl z)
                  · exact Or.inr (Or.inr (Or.inr (z))))
                refine r_ifz_eq (tgt := 223) hx hb dX0_holds_175 (by decide) (fun c383 => ?_) (fun c383 => ?_)
                · have h := it_neg h (by rw [c383]; decide)
                  refine lv_iconst (v := 0) hx hb dX0_holds_223 (by decide) ?_
                  obtain rfl := Option.some.inj h
                  have h := congrArg some (KR _ hk.symm)
                  refine W.widen (k := CE) (n := SE) (by omega) (by omega) ?_
                  obtain rfl := Option.some.inj h
                  rw [eQ]
                  exact r_zret hx hb hr hlk hS (by decide) hCE hSE dX0_holds_224 ⟨_, rfl, rfl, h_x0r0, h_x0r0r0, h_x0r0r1, h_x0r0r2, hF⟩
                · have h := it_pos h (by rw [c383])
                  exact HK309 o382.2.2.2.1 o382.2.2.2.2 o382.2.1 o382.2.2.1 h H locs hS hF h_x0 h_x0r0 h_x0r0r0 h_x0r0r1 h_x0r0r2 h_x1 ls (lv_sub hl [5, 6, 7, 4, 3, 2, 1, 0] rfl)
        clear eF284
        refine HL 5 o39.2.2.2.2.1 o39.2.2.2.2.2.1 o39.2.2.2.2.2.2 o39.2.1 o39.2.2.1 o39.2.2.2.1 x0r0f6 0 w285 ew285 _ _ (Nat.le_of_eq eCE.symm) (Nat.le_of_eq eSE.symm) H locs hS hF h_x0 h_x0r0 h_x0r0r0 h_x0r0r1 h_x0r0r2 h_x1 ls (lv_sub hl [1, 2, 0] rfl) (fun rt eR => ?_)
        subst eR
        exact Option.some.inj h
      · have h := it_neg h (by rw [c40]; decide)
        refine lv_iconst (v := 0) hx hb dX0_holds_87 (by decide) ?_
        obtain rfl := Option.some.inj h
        rw [eQ]
        exact r_zret hx hb hr hlk hS (by decide) (Nat.le_of_ble_eq_true rfl) (Nat.le_of_ble_eq_true rfl) dX0_holds_88 ⟨_, rfl, rfl, h_x0r0, h_x0r0r0, h_x0r0r1, h_x0r0r2, hF⟩

abbrev R_X0_told : Room := { frames := 16, cells := 505085, slots := 4374759, locals := 1617 }
noncomputable def f_X0_told (x0n : Nat) (x0c : Nat → Int32) : Option (Bool) :=
  Option.bind (f_X0_init ()) fun o2 =>
  Option.bind (f_X0_holds o2.1 o2.2.1 o2.2.2 0 0 0 0 x0n x0c) fun o7 =>
  some o7.1
theorem hd_X0_told : Hd yX0_told 1 := by unfold Hd; decide +kernel
set_option maxHeartbeats 4000000 in
set_option maxRecDepth 100000 in
theorem m_X0_told {l : Launch} (hfl : l.stackTraces = false) {D : DD} (x0 : Nat)  (x0n : Nat) (x0c : Nat → Int32) (r : Bool) (h : f_X0_told x0n x0c = some r) : MTW l D yX0_told cX0_told 2 (some .boolean) [((0 : Nat), (11 : Nat), (12 : Nat), (310 : Nat)), ((0 : Nat), (11 : Nat), (15 : Nat), (312 : Nat))] 16 1617 505085 4374759 [.ref x0] (fun H => aI D x0 x0n x0c H ∧ x0n ≤ 1000000) (pZ (fun H b H' => b = r ∧ Off (fun _ => False) H H')) := by
  refine MTW.start (by decide +kernel) (Nat.le_of_ble_eq_true rfl) ?_
  intro p e s m below meth c ls hC htab hS hp hl
  obtain ⟨h_x0, l_x0⟩ := hp
  obtain ⟨hx, hb, hr, hlk, hml, hown, hts, hnm⟩ := id hC
  have hl : lv_has ls 2 [(0, .ref x0)] := hl
  unfold f_X0_told at h
  have hS0 := hS
  obtain ⟨A, eA⟩ : ∃ A : Array Value, A = [.ref x0].toArray := ⟨_, rfl⟩
  rw [← eA] at hC hts ⊢
  obtain ⟨Q, eQ⟩ : ∃ Q : State → Prop, Q = MQ below (TQ D (pZ (fun H b H' => b = r ∧ Off (fun _ => False) H H'))) A s 505085 4374759 (fun q => dB D ≤ q) := ⟨_, rfl⟩
  have hF : Off (fun _ => False) s.heap s.heap := Off.rf
  show W p l e R_X0_told s m A below meth c s.heap [] 0 0 _ _
  rw [← eQ]
  obtain ⟨H, eH⟩ : ∃ H : Heap, H = s.heap := ⟨_, rfl⟩
  obtain ⟨locs, eLc⟩ : ∃ L : List Loc, L = [] := ⟨_, rfl⟩
  have lt_h_x0 := h_x0.lt
  rw [← eH, ← eLc]
  have hF : Off (fun _ => False) s.heap H := by rw [eH]; exact hF
  rw [← eH] at h_x0
  have hS : St D s H locs := by rw [eH, eLc]; exact hS
  refine r_new (k := 1) hx hb hts hown hS rfl in_X0 tyX0 tyX0_ok q158 q159 q39 (fs := [.null]) rfl (by decide) (Nat.le_of_ble_eq_true rfl) (Nat.le_of_ble_eq_true rfl) dX0_told_0 (fun ad1 H eq_ad1 hS hE had1 z_ad1 hB_had1 => ?_)
  have gad1 : s.heap.size ≤ ad1 := by have := hF.1; omega
  have ne_h_x0_had1 : x0 ≠ ad1 := by have := h_x0.lt; omega
  have h_x0 := h_x0.ext hE
  have hF := hF.trans (hE.mono (fun _ _ z => z.elim))
  refine lv_dup hx hb dX0_told_3 rfl ?_
  obtain ⟨o2, eo2, h⟩ := bind_step h
  have ltp_had1 := had1.lt
  refine r_cv (r_runI (rest := [.ref ad1]) (As := []) hC 0 (m_X0_init ad1   o2 eo2) q160 q161 q39 q162 rfl hd_X0_init rfl ⟨Nat.le_of_ble_eq_true rfl, Nat.le_of_ble_eq_true rfl⟩ hS ⟨had1, hB_had1⟩ hl.1 rfl (Nat.le_of_ble_eq_true rfl) dX0_told_4 ⟨Nat.le_of_ble_eq_true rfl, Nat.le_of_ble_eq_true rfl⟩) hS (fun H locs hp hS hz => ?_)
  obtain ⟨ad3, ad4, ad5, ad6, had1, had3, had4, frad4, had5, frad5, had6, frad6, frad3, ne_ad3_ad4, ne_ad3_ad5, ne_ad3_ad6, ne_ad4_ad5, ne_ad4_ad6, ne_ad4_ad3, ne_ad5_ad6, ne_ad5_ad3, ne_ad6_ad3, hO⟩ := hp
  have ne_h_x0_had3 : x0 ≠ ad3 := Nat.ne_of_lt (Nat.lt_of_lt_of_le h_x0.lt frad3)
  have ne_had1_had3 : ad1 ≠ ad3 := Nat.ne_of_lt (Nat.lt_of_lt_of_le ltp_had1 frad3)
  have gad3 : s.heap.size ≤ ad3 := Nat.le_trans hF.1 frad3
  have hB_had3 : dB D ≤ ad3 := by have := hS0.1.2.2.1; omega
  have ne_h_x0_had4 : x0 ≠ ad4 := Nat.ne_of_lt (Nat.lt_of_lt_of_le h_x0.lt frad4)
  have ne_had1_had4 : ad1 ≠ ad4 := Nat.ne_of_lt (Nat.lt_of_lt_of_le ltp_had1 frad4)
  have gad4 : s.heap.size ≤ ad4 := Nat.le_trans hF.1 frad4
  have hB_had4 : dB D ≤ ad4 := by have := hS0.1.2.2.1; omega
  have ne_h_x0_had5 : x0 ≠ ad5 := Nat.ne_of_lt (Nat.lt_of_lt_of_le h_x0.lt frad5)
  have ne_had1_had5 : ad1 ≠ ad5 := Nat.ne_of_lt (Nat.lt_of_lt_of_le ltp_had1 frad5)
  have gad5 : s.heap.size ≤ ad5 := Nat.le_trans hF.1 frad5
  have hB_had5 : dB D ≤ ad5 := by have := hS0.1.2.2.1; omega
  have ne_h_x0_had6 : x0 ≠ ad6 := Nat.ne_of_lt (Nat.lt_of_lt_of_le h_x0.lt frad6)
  have ne_had1_had6 : ad1 ≠ ad6 := Nat.ne_of_lt (Nat.lt_of_lt_of_le ltp_had1 frad6)
  have gad6 : s.heap.size ≤ ad6 := Nat.le_trans hF.1 frad6
  have hB_had6 : dB D ≤ ad6 := by have := hS0.1.2.2.1; omega
  have h_x0 := h_x0.off hO ne_h_x0_had1
  have hF := hF.fresh hO (fun a ha z => absurd (z ▸ ha) (Nat.not_lt.mpr gad1))
  refine lv_aload_n hx hb dX0_told_7 rfl (lv_at hl 0 rfl) ?_
  obtain ⟨o7, eo7, h⟩ := bind_step h
  refine r_cz (r_runV (rest := []) (As := [.ref x0]) hC 1 (m_X0_holds hfl ad1 ad3 ad4 ad5 ad6 x0  o2.1 o2.2.1 o2.2.2 0 0 0 0 x0n x0c o7 eo7) q940 q942 qs9 q39 q943 (OA.recv hS had1.OA (C := RX0) rfl) hd_X0_holds rfl ⟨Nat.le_of_ble_eq_true rfl, Nat.le_of_ble_eq_true rfl⟩ hS ⟨had1.OA, had3, hB_had3, had4, hB_had4, had5, hB_had5, had6, hB_had6, h_x0, l_x0, ne_had1_had3, ne_had1_had4, ne_had1_had5, ne_had1_had6, ne_ad3_ad4, ne_ad3_ad5, ne_ad3_ad6, (Ne.symm ne_h_x0_had3), ne_ad4_ad5, ne_ad4_ad6, (Ne.symm ne_h_x0_had4), ne_ad5_ad6, (Ne.symm ne_h_x0_had5), (Ne.symm ne_h_x0_had6)⟩ hl.1 rfl (Nat.le_of_ble_eq_true rfl) dX0_told_8 ⟨Nat.le_of_ble_eq_true rfl, Nat.le_of_ble_eq_true rfl⟩) hS (fun b H locs hp hS hz => ?_)
  obtain ⟨rfl, had3, had4, had5, had6, hO⟩ := hp
  have h_x0 := h_x0.off hO (fun z => by rcases z with z | z | z | z <;> first | exact ne_h_x0_had3 z | exact ne_h_x0_had4 z | exact ne_h_x0_had5 z | exact ne_h_x0_had6 z)
  have had1 := had1.off hO (fun z => by rcases z with z | z | z | z <;> first | exact ne_had1_had3 z | exact ne_had1_had4 z | exact ne_had1_had5 z | exact ne_had1_had6 z)
  have hF := hF.fresh hO (fun a ha z => by
    rcases z with z | z | z | z
    · exact absurd (z ▸ ha) (Nat.not_lt.mpr gad3)
    · exact absurd (z ▸ ha) (Nat.not_lt.mpr gad4)
    · exact absurd (z ▸ ha) (Nat.not_lt.mpr gad5)
    · exact absurd (z ▸ ha) (Nat.not_lt.mpr gad6))
  obtain rfl := Option.some.inj h
  rw [eQ]
  exact r_zret hx hb hr hlk hS (narB _) (Nat.le_of_ble_eq_true rfl) (Nat.le_of_ble_eq_true rfl) dX0_told_11 ⟨_, rfl, rfl, hF⟩

