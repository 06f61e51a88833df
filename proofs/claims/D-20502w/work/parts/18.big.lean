/-! java/math/BigInteger: by tools/gen18.py -/
abbrev R_J9_init : Room := { frames := 1, cells := 0, slots := 0, locals := 20 }
noncomputable def f_J9_init (_u : Unit) : Option (Unit) :=
  some ()
theorem hd_J9_init : Hd yJ9_init 0 := by unfold Hd; decide +kernel
set_option maxHeartbeats 4000000 in
set_option maxRecDepth 100000 in
theorem m_J9_init {l : Launch} {D : DD} (x0 : Nat)   (r : Unit) (h : f_J9_init () = some r) : MT l D yJ9_init cJ9_init 1 none 1 20 0 0 [.ref x0] NoPre (pV (fun H H' => Off (fun _ => False) H H')) := by
  refine MT.start (by decide +kernel) (Nat.le_of_ble_eq_true rfl) ?_
  intro p e s m below meth c ls hC hS hp hl
  obtain ⟨hx, hb, hr, hlk, hml, hown, hts, hnm⟩ := id hC
  have hl : lv_has ls 1 [(0, .ref x0)] := hl
  unfold f_J9_init at h
  have hS0 := hS
  obtain ⟨A, eA⟩ : ∃ A : Array Value, A = [.ref x0].toArray := ⟨_, rfl⟩
  rw [← eA] at hC hts ⊢
  obtain ⟨Q, eQ⟩ : ∃ Q : State → Prop, Q = MQ below (TQ D (pV (fun H H' => Off (fun _ => False) H H'))) A s 0 0 (fun q => dB D ≤ q) := ⟨_, rfl⟩
  have hF : Off (fun _ => False) s.heap s.heap := Off.rf
  show W p l e R_J9_init s m A below meth c s.heap [] 0 0 _ _
  rw [← eQ]
  obtain ⟨H, eH⟩ : ∃ H : Heap, H = s.heap := ⟨_, rfl⟩
  obtain ⟨locs, eLc⟩ : ∃ L : List Loc, L = [] := ⟨_, rfl⟩
  rw [← eH, ← eLc]
  have hF : Off (fun _ => False) s.heap H := by rw [eH]; exact hF
  have hS : St D s H locs := by rw [eH, eLc]; exact hS
  refine lv_aload_n hx hb dJ9_init_0 rfl (lv_at hl 0 rfl) ?_
  refine r_oinit hC q434 q95 q96 hl.1 dJ9_init_1 ⟨Nat.le_of_ble_eq_true rfl, Nat.le_of_ble_eq_true rfl⟩ ?_
  obtain rfl := Option.some.inj h
  rw [eQ]
  exact r_vret hx hb hr hlk hS (Nat.le_of_ble_eq_true rfl) (Nat.le_of_ble_eq_true rfl) dJ9_init_4 ⟨rfl, hF⟩

abbrev R_J16_init : Room := { frames := 2, cells := 1, slots := 2, locals := 40 }
noncomputable def f_J16_init (x1 : Int64) : Option (Int32 × Nat × (Nat → Int32)) :=
  Option.bind (f_J9_init ()) fun o1 =>
  lti (lg_cmp x1 0) fun v2 =>
  lt (fun (v3 : Int32) (v4 : Int64) =>
  ltl (((v4 : Int64).toUInt64 >>> ((32 : Int32).toInt64.toUInt64 &&& Int64.toUInt64 63)).toInt64) fun v6 =>
  lti (v6.toInt32) fun v7 =>
  (if v7 = 0 then
    lti (v4.toInt32) fun v14 =>
    lt (va_up (fun _ => 0) 0 v14) fun f15 =>
    some (v3, 1, f15)
  else
    lt (va_up (fun _ => 0) 0 v7) fun f10 =>
    lti (v4.toInt32) fun v11 =>
    lt (va_up f10 1 v11) fun f12 =>
    some (v3, 2, f12)
  )
  ) fun K5 =>
  (if 0 ≤ v2 then
    K5 1 x1
  else
    ltl (-x1) fun v17 =>
    K5 (-1) v17
  )
theorem hd_J16_init : Hd yJ16_init 1 := by unfold Hd; decide +kernel
set_option maxHeartbeats 4000000 in
set_option maxRecDepth 100000 in
theorem m_J16_init {l : Launch} {D : DD} (x0 : Nat)  (x1 : Int64) (r : Int32 × Nat × (Nat → Int32)) (h : f_J16_init x1 = some r) : MT l D yJ16_init cJ16_init 4 none 2 40 1 2 [.ref x0, .long x1] (fun H => ON D 2 x0 [.int 0, .null, .int 0, .int 0, .int 0, .int 0] H ∧ dB D ≤ x0) (pV (fun H H' => ∃ mx0_1 : Nat, ON D 2 x0 [.int r.1, .ref mx0_1, .int 0, .int 0, .int 0, .int 0] H' ∧ aI D mx0_1 r.2.1 r.2.2 H' ∧ r.2.1 ≤ 1000000 ∧ Off (fun a => a = x0) H H')) := by
  refine MT.start (by decide +kernel) (Nat.le_of_ble_eq_true rfl) ?_
  intro p e s m below meth c ls hC hS hp hl
  obtain ⟨h_x0, hB_h_x0⟩ := hp
  obtain ⟨hx, hb, hr, hlk, hml, hown, hts, hnm⟩ := id hC
  have hl : lv_has ls 4 [(0, .ref x0), (1, .long x1)] := hl
  unfold f_J16_init at h
  have hS0 := hS
  obtain ⟨A, eA⟩ : ∃ A : Array Value, A = [.ref x0, .long x1].toArray := ⟨_, rfl⟩
  rw [← eA] at hC hts ⊢
  obtain ⟨Q, eQ⟩ : ∃ Q : State → Prop, Q = MQ below (TQ D (pV (fun H H' => ∃ mx0_1 : Nat, ON D 2 x0 [.int r.1, .ref mx0_1, .int 0, .int 0, .int 0, .int 0] H' ∧ aI D mx0_1 r.2.1 r.2.2 H' ∧ r.2.1 ≤ 1000000 ∧ Off (fun a => a = x0) H H'))) A s 1 2 (fun q => dB D ≤ q) := ⟨_, rfl⟩
  have hF : Off (fun a => a = x0) s.heap s.heap := Off.rf
  show W p l e R_J16_init s m A below meth c s.heap [] 0 0 _ _
  rw [← eQ]
  obtain ⟨H, eH⟩ : ∃ H : Heap, H = s.heap := ⟨_, rfl⟩
  obtain ⟨locs, eLc⟩ : ∃ L : List Loc, L = [] := ⟨_, rfl⟩
  have lt_h_x0 := h_x0.lt
  rw [← eH, ← eLc]
  have hF : Off (fun a => a = x0) s.heap H := by rw [eH]; exact hF
  rw [← eH] at h_x0
  have hS : St D s H locs := by rw [eH, eLc]; exact hS
  refine lv_aload_n hx hb dJ16_init_0 rfl (lv_at hl 0 rfl) ?_
  obtain ⟨o1, eo1, h⟩ := bind_step h
  refine r_cv (r_runI (rest := []) (As := []) hC 0 (m_J9_init x0   o1 eo1) q431 q432 q50 q433 rfl hd_J9_init rfl ⟨Nat.le_of_ble_eq_true rfl, Nat.le_of_ble_eq_true rfl⟩ hS trivial hl.1 rfl (Nat.le_of_ble_eq_true rfl) dJ16_init_1 ⟨Nat.le_of_ble_eq_true rfl, Nat.le_of_ble_eq_true rfl⟩) hS (fun H locs hp hS hz => ?_)
  have hO := hp
  have h_x0 := h_x0.ext hO
  have hF := hF.trans (hO.mono (fun _ _ z => z.elim))
  refine lv_lload_n hx hb dJ16_init_4 rfl (lv_at hl 1 rfl) ?_
  refine lv_lconst (v := 0) hx hb dJ16_init_5 rfl ?_
  obtain ⟨v2, ev2, h⟩ := lti_step h
  refine r_lcmp hx hb ev2 dJ16_init_6 ?_
  obtain ⟨K5, eK5, h⟩ := lt_step h
  have HK5 : ∀ (v3 : Int32) (v4 : Int64) (h : K5 v3 v4 = some r) (H : Heap) (locs : List Loc) (hS : St D s H locs) (hF : Off (fun a => a = x0) s.heap H) (h_x0 : ON D 2 x0 [.int v3, .null, .int 0, .int 0, .int 0, .int 0] H) (ls : Array Slot) (hl : lv_has ls 4 [(0, .ref x0), (1, .long v4)]), W p l e R_J16_init s m A below meth c H locs 0 0 Q (F0 m 26 ls []) := by
    intro v3 v4 h H locs hS hF h_x0 ls hl
    subst eK5
    refine lv_lload_n hx hb dJ16_init_26 rfl (lv_at hl 1 rfl) ?_
    refine lv_bipush (v := 32) hx hb dJ16_init_27 (by decide) ?_
    obtain ⟨v6, ev6, h⟩ := ltl_step h
    refine r_lushr hx hb ev6 dJ16_init_29 ?_
    obtain ⟨v7, ev7, h⟩ := lti_step h
    refine r_l2i hx hb ev7 dJ16_init_30 ?_
    refine lv_istore_n (lv' := [(3, .int v7), (0, .ref x0), (1, .long v4)]) hx hb dJ16_init_31 rfl hl (by decide) rfl (fun ls hl => ?_)
    refine lv_iload_n hx hb dJ16_init_32 rfl (lv_at hl 0 rfl) ?_
    refine lv_if_ne (tgt := 54) hx hb dJ16_init_33 (by decide) (fun c8 => ?_) (fun c8 => ?_)
    · have h := it_neg h c8
      refine lv_aload_n hx hb dJ16_init_54 rfl (lv_at hl 1 rfl) ?_
      refine lv_iconst (v := 2) hx hb dJ16_init_55 (by decide) ?_
      refine r_newa hx hb hts hS (ty := .int) rfl q453 2 rfl (by decide) (by decide) (Nat.le_of_ble_eq_true rfl) (Nat.le_of_ble_eq_true rfl) dJ16_init_56 (fun ad9 H eq_ad9 hS hE had9 z_ad9 hB_had9 => ?_)
      have had9 : aI D ad9 2 (fun _ => 0) H := had9
      have gad9 : s.heap.size ≤ ad9 := by have := hF.1; omega
      have ne_h_x0_had9 : x0 ≠ ad9 := by have := h_x0.lt; omega
      have h_x0 := h_x0.ext hE
      have hF := hF.trans (hE.mono (fun _ _ z => z.elim))
      refine r_putF hx hb hts hown hS h_x0 hB_h_x0 rfl in_J16 tyJ16 tyJ16_ok nmJ16 1 (Nat.le_of_ble_eq_true rfl) rfl q436 rfl rfl hnm rfl (v := .ref ad9) rfl (by rfl) dJ16_init_58 (fun H locs hS hO h_x0 => ?_)
      have h_x0 : ON D 2 x0 [.int v3, .ref ad9, .int 0, .int 0, .int 0, .int 0] H := h_x0
      have had9 := had9.off hO (Ne.symm ne_h_x0_had9)
      have hF := hF.fresh hO (fun a ha z => z)
      refine lv_aload_n hx hb dJ16_init_61 rfl (lv_at hl 1 rfl) ?_
      refine r_get hx hb hts hown hS h_x0.OA rfl in_J16 1 (by decide) q436 rfl (v := .ref ad9) rfl dJ16_init_62 ?_
      refine lv_iconst (v := 0) hx hb dJ16_init_65 (by decide) ?_
      refine lv_iload_n hx hb dJ16_init_66 rfl (lv_at hl 0 rfl) ?_
      obtain ⟨f10, ef10, h⟩ := lt_step h
      refine r_iast hx hb hS had9 hB_had9 0 ⟨rfl, by decide, by decide⟩ dJ16_init_67 (fun H locs hS hO had9 => ?_)
      have had9 : aI D ad9 2 f10 H := by rw [ef10]; exact had9
      have h_x0 := h_x0.off hO ne_h_x0_had9
      have hF := hF.fresh hO (fun a ha z => absurd (z ▸ ha) (Nat.not_lt.mpr gad9))
      refine lv_aload_n hx hb dJ16_init_68 rfl (lv_at hl 1 rfl) ?_
      refine r_get hx hb hts hown hS h_x0.OA rfl in_J16 1 (by decide) q436 rfl (v := .ref ad9) rfl dJ16_init_69 ?_
      refine lv_iconst (v := 1) hx hb dJ16_init_72 (by decide) ?_
      refine lv_lload_n hx hb dJ16_init_73 rfl (lv_at hl 2 rfl) ?_
      obtain ⟨v11, ev11, h⟩ := lti_step h
      refine r_l2i hx hb ev11 dJ16_init_74 ?_
      obtain ⟨f12, ef12, h⟩ := lt_step h
      refine r_iast hx hb hS had9 hB_had9 1 ⟨rfl, by decide, by decide⟩ dJ16_init_75 (fun H locs hS hO had9 => ?_)
      have had9 : aI D ad9 2 f12 H := by rw [ef12]; exact had9
      have h_x0 := h_x0.off hO ne_h_x0_had9
      have hF := hF.fresh hO (fun a ha z => absurd (z ▸ ha) (Nat.not_lt.mpr gad9))
      obtain rfl := Option.some.inj h
      rw [eQ]
      exact r_vret hx hb hr hlk hS (Nat.le_of_ble_eq_true rfl) (Nat.le_of_ble_eq_true rfl) dJ16_init_76 ⟨rfl, ad9, h_x0, had9, (Nat.le_of_ble_eq_true rfl), hF⟩
    · have h := it_pos h c8
      refine lv_aload_n hx hb dJ16_init_36 rfl (lv_at hl 1 rfl) ?_
      refine lv_iconst (v := 1) hx hb dJ16_init_37 (by decide) ?_
      refine r_newa hx hb hts hS (ty := .int) rfl q453 1 rfl (by decide) (by decide) (Nat.le_of_ble_eq_true rfl) (Nat.le_of_ble_eq_true rfl) dJ16_init_38 (fun ad13 H eq_ad13 hS hE had13 z_ad13 hB_had13 => ?_)
      have had13 : aI D ad13 1 (fun _ => 0) H := had13
      have gad13 : s.heap.size ≤ ad13 := by have := hF.1; omega
      have ne_h_x0_had13 : x0 ≠ ad13 := by have := h_x0.lt; omega
      have h_x0 := h_x0.ext hE
      have hF := hF.trans (hE.mono (fun _ _ z => z.elim))
      refine r_putF hx hb hts hown hS h_x0 hB_h_x0 rfl in_J16 tyJ16 tyJ16_ok nmJ16 1 (Nat.le_of_ble_eq_true rfl) rfl q436 rfl rfl hnm rfl (v := .ref ad13) rfl (by rfl) dJ16_init_40 (fun H locs hS hO h_x0 => ?_)
      have h_x0 : ON D 2 x0 [.int v3, .ref ad13, .int 0, .int 0, .int 0, .int 0] H := h_x0
      have had13 := had13.off hO (Ne.symm ne_h_x0_had13)
      have hF := hF.fresh hO (fun a ha z => z)
      refine lv_aload_n hx hb dJ16_init_43 rfl (lv_at hl 1 rfl) ?_
      refine r_get hx hb hts hown hS h_x0.OA rfl in_J16 1 (by decide) q436 rfl (v := .ref ad13) rfl dJ16_init_44 ?_
      refine lv_iconst (v := 0) hx hb dJ16_init_47 (by decide) ?_
      refine lv_lload_n hx hb dJ16_init_48 rfl (lv_at hl 2 rfl) ?_
      obtain ⟨v14, ev14, h⟩ := lti_step h
      refine r_l2i hx hb ev14 dJ16_init_49 ?_
      obtain ⟨f15, ef15, h⟩ := lt_step h
      refine r_iast hx hb hS had13 hB_had13 0 ⟨rfl, by decide, by decide⟩ dJ16_init_50 (fun H locs hS hO had13 => ?_)
      have had13 : aI D ad13 1 f15 H := by rw [ef15]; exact had13
      have h_x0 := h_x0.off hO ne_h_x0_had13
      have hF := hF.fresh hO (fun a ha z => absurd (z ▸ ha) (Nat.not_lt.mpr gad13))
      refine lv_goto (tgt := 76) hx hb dJ16_init_51 (by decide) ?_
      obtain rfl := Option.some.inj h
      rw [eQ]
      exact r_vret hx hb hr hlk hS (Nat.le_of_ble_eq_true rfl) (Nat.le_of_ble_eq_true rfl) dJ16_init_76 ⟨rfl, ad13, h_x0, had13, (Nat.le_of_ble_eq_true rfl), hF⟩
  clear eK5
  refine lv_if_ge (tgt := 21) hx hb dJ16_init_7 (by decide) (fun c16 => ?_) (fun c16 => ?_)
  · have h := it_pos h c16
    refine lv_aload_n hx hb dJ16_init_21 rfl (lv_at hl 0 rfl) ?_
    refine lv_iconst (v := 1) hx hb dJ16_init_22 (by decide) ?_
    refine r_putF hx hb hts hown hS h_x0 hB_h_x0 rfl in_J16 tyJ16 tyJ16_ok nmJ16 0 (Nat.le_of_ble_eq_true rfl) rfl q435 rfl rfl hnm rfl (v := .int 1) rfl (by rfl) dJ16_init_23 (fun H locs hS hO h_x0 => ?_)
    have h_x0 : ON D 2 x0 [.int 1, .null, .int 0, .int 0, .int 0, .int 0] H := h_x0
    have hF := hF.fresh hO (fun a ha z => z)
    exact HK5 1 x1 h H locs hS hF h_x0 ls (lv_sub hl [0, 1] rfl)
  · have h := it_neg h c16
    refine lv_lload_n hx hb dJ16_init_10 rfl (lv_at hl 1 rfl) ?_
    obtain ⟨v17, ev17, h⟩ := ltl_step h
    refine r_lneg hx hb ev17 dJ16_init_11 ?_
    refine lv_lstore_n (lv' := [(1, .long v17), (0, .ref x0)]) hx hb dJ16_init_12 rfl hl (by decide) rfl (fun ls hl => ?_)
    refine lv_aload_n hx hb dJ16_init_13 rfl (lv_at hl 1 rfl) ?_
    refine lv_iconst (v := (-1)) hx hb dJ16_init_14 (by decide) ?_
    refine r_putF hx hb hts hown hS h_x0 hB_h_x0 rfl in_J16 tyJ16 tyJ16_ok nmJ16 0 (Nat.le_of_ble_eq_true rfl) rfl q435 rfl rfl hnm rfl (v := .int (-1)) rfl (by rfl) dJ16_init_15 (fun H locs hS hO h_x0 => ?_)
    have h_x0 : ON D 2 x0 [.int (-1), .null, .int 0, .int 0, .int 0, .int 0] H := h_x0
    have hF := hF.fresh hO (fun a ha z => z)
    refine lv_goto (tgt := 26) hx hb dJ16_init_18 (by decide) ?_
    exact HK5 (-1) v17 h H locs hS hF h_x0 ls (lv_sub hl [1, 0] rfl)

abbrev R_J16_init_2 : Room := { frames := 2, cells := 0, slots := 0, locals := 40 }
noncomputable def f_J16_init_2 (x1n : Nat) (x1c : Nat → Int32) (x2 : Int32) : Option (Int32) :=
  Option.bind (f_J9_init ()) fun o1 =>
  lt (fun (v2 : Int32) =>
  (if (nI x1n) < 67108864 then
    some v2
  else
    none
  )
  ) fun K3 =>
  (if (nI x1n) = 0 then
    K3 0
  else
    K3 x2
  )
theorem hd_J16_init_2 : Hd yJ16_init_2 2 := by unfold Hd; decide +kernel
set_option maxHeartbeats 4000000 in
set_option maxRecDepth 100000 in
theorem m_J16_init_2 {l : Launch} {D : DD} (x0 : Nat) (x1 : Nat)  (x1n : Nat) (x1c : Nat → Int32) (x2 : Int32) (r : Int32) (h : f_J16_init_2 x1n x1c x2 = some r) : MT l D yJ16_init_2 cJ16_init_2 3 none 2 40 0 0 [.ref x0, .ref x1, .int x2] (fun H => ON D 2 x0 [.int 0, .null, .int 0, .int 0, .int 0, .int 0] H ∧ dB D ≤ x0 ∧ aI D x1 x1n x1c H ∧ x1n ≤ 1000000 ∧ x0 ≠ x1) (pV (fun H H' => ON D 2 x0 [.int r, .ref x1, .int 0, .int 0, .int 0, .int 0] H' ∧ Off (fun a => a = x0) H H')) := by
  refine MT.start (by decide +kernel) (Nat.le_of_ble_eq_true rfl) ?_
  intro p e s m below meth c ls hC hS hp hl
  obtain ⟨h_x0, hB_h_x0, h_x1, l_x1, ne_x0_x1⟩ := hp
  obtain ⟨hx, hb, hr, hlk, hml, hown, hts, hnm⟩ := id hC
  have hl : lv_has ls 3 [(0, .ref x0), (1, .ref x1), (2, .int x2)] := hl
  unfold f_J16_init_2 at h
  have hS0 := hS
  obtain ⟨A, eA⟩ : ∃ A : Array Value, A = [.ref x0, .ref x1, .int x2].toArray := ⟨_, rfl⟩
  rw [← eA] at hC hts ⊢
  obtain ⟨Q, eQ⟩ : ∃ Q : State → Prop, Q = MQ below (TQ D (pV (fun H H' => ON D 2 x0 [.int r, .ref x1, .int 0, .int 0, .int 0, .int 0] H' ∧ Off (fun a => a = x0) H H'))) A s 0 0 (fun q => dB D ≤ q) := ⟨_, rfl⟩
  have hF : Off (fun a => a = x0) s.heap s.heap := Off.rf
  show W p l e R_J16_init_2 s m A below meth c s.heap [] 0 0 _ _
  rw [← eQ]
  obtain ⟨H, eH⟩ : ∃ H : Heap, H = s.heap := ⟨_, rfl⟩
  obtain ⟨locs, eLc⟩ : ∃ L : List Loc, L = [] := ⟨_, rfl⟩
  have lt_h_x0 := h_x0.lt
  have lt_h_x1 := h_x1.lt
  rw [← eH, ← eLc]
  have hF : Off (fun a => a = x0) s.heap H := by rw [eH]; exact hF
  rw [← eH] at h_x0
  rw [← eH] at h_x1
  have hS : St D s H locs := by rw [eH, eLc]; exact hS
  refine lv_aload_n hx hb dJ16_init_2_0 rfl (lv_at hl 0 rfl) ?_
  obtain ⟨o1, eo1, h⟩ := bind_step h
  refine r_cv (r_runI (rest := []) (As := []) hC 0 (m_J9_init x0   o1 eo1) q431 q432 q50 q433 rfl hd_J9_init rfl ⟨Nat.le_of_ble_eq_true rfl, Nat.le_of_ble_eq_true rfl⟩ hS trivial hl.1 rfl (Nat.le_of_ble_eq_true rfl) dJ16_init_2_1 ⟨Nat.le_of_ble_eq_true rfl, Nat.le_of_ble_eq_true rfl⟩) hS (fun H locs hp hS hz => ?_)
  have hO := hp
  have h_x0 := h_x0.ext hO
  have h_x1 := h_x1.ext hO
  have hF := hF.trans (hO.mono (fun _ _ z => z.elim))
  refine lv_aload_n hx hb dJ16_init_2_4 rfl (lv_at hl 0 rfl) ?_
  refine lv_aload_n hx hb dJ16_init_2_5 rfl (lv_at hl 1 rfl) ?_
  refine r_alen hx hb hS h_x1 dJ16_init_2_6 ?_
  obtain ⟨K3, eK3, h⟩ := lt_step h
  have HK3 : ∀ (v2 : Int32) (h : K3 v2 = some r) (H : Heap) (locs : List Loc) (hS : St D s H locs) (hF : Off (fun a => a = x0) s.heap H) (h_x0 : ON D 2 x0 [.int 0, .null, .int 0, .int 0, .int 0, .int 0] H) (h_x1 : aI D x1 x1n x1c H) (ls : Array Slot) (hl : lv_has ls 3 [(0, .ref x0), (1, .ref x1)]), W p l e R_J16_init_2 s m A below meth c H locs 0 0 Q (F0 m 15 ls [.int v2, .ref x0]) := by
    intro v2 h H locs hS hF h_x0 h_x1 ls hl
    subst eK3
    refine r_putF hx hb hts hown hS h_x0 hB_h_x0 rfl in_J16 tyJ16 tyJ16_ok nmJ16 0 (Nat.le_of_ble_eq_true rfl) rfl q435 rfl rfl hnm rfl (v := .int v2) rfl (by rfl) dJ16_init_2_15 (fun H locs hS hO h_x0 => ?_)
    have h_x0 : ON D 2 x0 [.int v2, .null, .int 0, .int 0, .int 0, .int 0] H := h_x0
    have h_x1 := h_x1.off hO (Ne.symm ne_x0_x1)
    have hF := hF.fresh hO (fun a ha z => z)
    refine lv_aload_n hx hb dJ16_init_2_18 rfl (lv_at hl 0 rfl) ?_
    refine lv_aload_n hx hb dJ16_init_2_19 rfl (lv_at hl 1 rfl) ?_
    refine r_putF hx hb hts hown hS h_x0 hB_h_x0 rfl in_J16 tyJ16 tyJ16_ok nmJ16 1 (Nat.le_of_ble_eq_true rfl) rfl q436 rfl rfl hnm rfl (v := .ref x1) rfl (by rfl) dJ16_init_2_20 (fun H locs hS hO h_x0 => ?_)
    have h_x0 : ON D 2 x0 [.int v2, .ref x1, .int 0, .int 0, .int 0, .int 0] H := h_x0
    have h_x1 := h_x1.off hO (Ne.symm ne_x0_x1)
    have hF := hF.fresh hO (fun a ha z => z)
    refine lv_aload_n hx hb dJ16_init_2_23 rfl (lv_at hl 0 rfl) ?_
    refine r_get hx hb hts hown hS h_x0.OA rfl in_J16 1 (by decide) q436 rfl (v := .ref x1) rfl dJ16_init_2_24 ?_
    refine r_alen hx hb hS h_x1 dJ16_init_2_27 ?_
    refine lv_ldc hx hb (v := 67108864) hown (hts _ q476) dJ16_init_2_28 ?_
    refine lv_icmp_lt (tgt := 37) hx hb dJ16_init_2_30 (by decide) (fun c4 => ?_) (fun c4 => ?_)
    · have h := it_pos h c4
      obtain rfl := Option.some.inj h
      rw [eQ]
      exact r_vret hx hb hr hlk hS (Nat.le_of_ble_eq_true rfl) (Nat.le_of_ble_eq_true rfl) dJ16_init_2_37 ⟨rfl, h_x0, hF⟩
    · have h := it_neg h c4
      cases h
  clear eK3
  refine lv_if_ne (tgt := 14) hx hb dJ16_init_2_7 (by decide) (fun c5 => ?_) (fun c5 => ?_)
  · have h := it_neg h c5
    refine lv_iload_n hx hb dJ16_init_2_14 rfl (lv_at hl 2 rfl) ?_
    exact HK3 x2 h H locs hS hF h_x0 h_x1 ls (lv_sub hl [0, 1] rfl)
  · have h := it_pos h c5
    refine lv_iconst (v := 0) hx hb dJ16_init_2_10 (by decide) ?_
    refine lv_goto (tgt := 15) hx hb dJ16_init_2_11 (by decide) ?_
    exact HK3 0 h H locs hS hF h_x0 h_x1 ls (lv_sub hl [0, 1] rfl)

abbrev R_J18_checkFromToIndex : Room := { frames := 0, cells := 0, slots := 0, locals := 0 }
noncomputable def f_J18_checkFromToIndex (x0 : Int32) (x1 : Int32) (x2 : Int32) : Option (Int32) :=
  lt (fun (_u : Unit) =>
  none
  ) fun K1 =>
  (if x0 < 0 then
    K1 ()
  else
    (if x1 < x0 then
      K1 ()
    else
      (if x1 ≤ x2 then
        some x0
      else
        K1 ()
      )
    )
  )
theorem hd_J18_checkFromToIndex : Hd yJ18_checkFromToIndex 4 := by unfold Hd; decide +kernel
set_option maxHeartbeats 4000000 in
set_option maxRecDepth 100000 in
theorem m_J18_checkFromToIndex {l : Launch} {D : DD}   (x0 : Int32) (x1 : Int32) (x2 : Int32) (r : Int32) (h : f_J18_checkFromToIndex x0 x1 x2 = some r) : MP l D yJ18_checkFromToIndex cJ18_checkFromToIndex 4 (some .int) 0 0 [.int x0, .int x1, .int x2, .null] NoPre (some (.int r)) := by
  refine MP.start (by decide +kernel) (Nat.le_of_ble_eq_true rfl) ?_
  intro p e s m below meth c ls hC hS hp hl
  obtain ⟨hx, hb, hr, hlk, hml, hown, hts, hnm⟩ := id hC
  have hl : lv_has ls 4 [(0, .int x0), (1, .int x1), (2, .int x2), (3, .null)] := hl
  unfold f_J18_checkFromToIndex at h
  have hS0 := hS
  obtain ⟨A, eA⟩ : ∃ A : Array Value, A = [.int x0, .int x1, .int x2, .null].toArray := ⟨_, rfl⟩
  rw [← eA] at hC hts ⊢
  obtain ⟨Q, eQ⟩ : ∃ Q : State → Prop, Q = MQ below (PQ (some (.int r))) A s 0 0 (fun _ => False) := ⟨_, rfl⟩
  show W p l e R_J18_checkFromToIndex s m A below meth c s.heap [] 0 0 _ _
  rw [← eQ]
  refine lv_iload_n hx hb dJ18_checkFromToIndex_0 rfl (lv_at hl 0 rfl) ?_
  obtain ⟨K1, eK1, h⟩ := lt_step h
  have HK1 : ∀  (h : K1 () = some r)  (ls : Array Slot) (hl : lv_has ls 4 [(0, .int x0), (1, .int x1), (2, .int x2), (3, .null)]), W p l e R_J18_checkFromToIndex s m A below meth c s.heap [] 0 0 Q (F0 m 14 ls []) := by
    intro h  ls hl
    subst eK1
    refine lv_aload_nN hx hb dJ18_checkFromToIndex_14 rfl (lv_at hl 3 rfl) ?_
    refine lv_iload_n hx hb dJ18_checkFromToIndex_15 rfl (lv_at hl 0 rfl) ?_
    refine lv_iload_n hx hb dJ18_checkFromToIndex_16 rfl (lv_at hl 1 rfl) ?_
    refine lv_iload_n hx hb dJ18_checkFromToIndex_17 rfl (lv_at hl 2 rfl) ?_
    cases h
  clear eK1
  refine lv_if_lt (tgt := 14) hx hb dJ18_checkFromToIndex_1 (by decide) (fun c2 => ?_) (fun c2 => ?_)
  · have h := it_pos h c2
    exact HK1  h  ls (lv_sub hl [0, 1, 2, 3] rfl)
  · have h := it_neg h c2
    refine lv_iload_n hx hb dJ18_checkFromToIndex_4 rfl (lv_at hl 0 rfl) ?_
    refine lv_iload_n hx hb dJ18_checkFromToIndex_5 rfl (lv_at hl 1 rfl) ?_
    refine lv_icmp_gt (tgt := 14) hx hb dJ18_checkFromToIndex_6 (by decide) (fun c3 => ?_) (fun c3 => ?_)
    · have h := it_pos h c3
      exact HK1  h  ls (lv_sub hl [0, 1, 2, 3] rfl)
    · have h := it_neg h c3
      refine lv_iload_n hx hb dJ18_checkFromToIndex_9 rfl (lv_at hl 1 rfl) ?_
      refine lv_iload_n hx hb dJ18_checkFromToIndex_10 rfl (lv_at hl 2 rfl) ?_
      refine lv_icmp_le (tgt := 22) hx hb dJ18_checkFromToIndex_11 (by decide) (fun c4 => ?_) (fun c4 => ?_)
      · have h := it_pos h c4
        refine lv_iload_n hx hb dJ18_checkFromToIndex_22 rfl (lv_at hl 0 rfl) ?_
        obtain rfl := Option.some.inj h
        rw [eQ]
        exact p_iret hx hb hr hlk dJ18_checkFromToIndex_23 rfl
      · have h := it_neg h c4
        exact HK1  h  ls (lv_sub hl [0, 1, 2, 3] rfl)

abbrev R_J17_checkFromToIndex : Room := { frames := 1, cells := 0, slots := 0, locals := 23 }
noncomputable def f_J17_checkFromToIndex (x0 : Int32) (x1 : Int32) (x2 : Int32) : Option (Int32) :=
  Option.bind (f_J18_checkFromToIndex x0 x1 x2) fun o1 =>
  some o1
theorem hd_J17_checkFromToIndex : Hd yJ17_checkFromToIndex 3 := by unfold Hd; decide +kernel
set_option maxHeartbeats 4000000 in
set_option maxRecDepth 100000 in
theorem m_J17_checkFromToIndex {l : Launch} {D : DD}   (x0 : Int32) (x1 : Int32) (x2 : Int32) (r : Int32) (h : f_J17_checkFromToIndex x0 x1 x2 = some r) : MP l D yJ17_checkFromToIndex cJ17_checkFromToIndex 3 (some .int) 1 23 [.int x0, .int x1, .int x2] NoPre (some (.int r)) := by
  refine MP.start (by decide +kernel) (Nat.le_of_ble_eq_true rfl) ?_
  intro p e s m below meth c ls hC hS hp hl
  obtain ⟨hx, hb, hr, hlk, hml, hown, hts, hnm⟩ := id hC
  have hl : lv_has ls 3 [(0, .int x0), (1, .int x1), (2, .int x2)] := hl
  unfold f_J17_checkFromToIndex at h
  have hS0 := hS
  obtain ⟨A, eA⟩ : ∃ A : Array Value, A = [.int x0, .int x1, .int x2].toArray := ⟨_, rfl⟩
  rw [← eA] at hC hts ⊢
  obtain ⟨Q, eQ⟩ : ∃ Q : State → Prop, Q = MQ below (PQ (some (.int r))) A s 0 0 (fun _ => False) := ⟨_, rfl⟩
  show W p l e R_J17_checkFromToIndex s m A below meth c s.heap [] 0 0 _ _
  rw [← eQ]
  refine lv_iload_n hx hb dJ17_checkFromToIndex_0 rfl (lv_at hl 0 rfl) ?_
  refine lv_iload_n hx hb dJ17_checkFromToIndex_1 rfl (lv_at hl 1 rfl) ?_
  refine lv_iload_n hx hb dJ17_checkFromToIndex_2 rfl (lv_at hl 2 rfl) ?_
  refine lv_null hx hb dJ17_checkFromToIndex_3 ?_
  obtain ⟨o1, eo1, h⟩ := bind_step h
  refine r_cp (r_runS (rest := []) (As := [.int x0, .int x1, .int x2, .null]) hC 4 (m_J18_checkFromToIndex   x0 x1 x2 o1 eo1) q467 q468 q60 q469 hd_J18_checkFromToIndex rfl ⟨Nat.le_of_ble_eq_true rfl, Nat.le_of_ble_eq_true rfl⟩ hS trivial hl.1 rfl (Nat.le_of_ble_eq_true rfl) dJ17_checkFromToIndex_4 ⟨Nat.le_of_ble_eq_true rfl, Nat.le_of_ble_eq_true rfl⟩) ?_
  obtain rfl := Option.some.inj h
  rw [eQ]
  exact p_iret hx hb hr hlk dJ17_checkFromToIndex_7 rfl

abbrev R_J19_checkLength : Room := { frames := 0, cells := 0, slots := 0, locals := 0 }
noncomputable def f_J19_checkLength (x0 : Int32) (x1 : Int32) : Option (Unit) :=
  (if x0 ≤ x1 then
    some ()
  else
    none
  )
theorem hd_J19_checkLength : Hd yJ19_checkLength 2 := by unfold Hd; decide +kernel
set_option maxHeartbeats 4000000 in
set_option maxRecDepth 100000 in
theorem m_J19_checkLength {l : Launch} {D : DD}   (x0 : Int32) (x1 : Int32) (r : Unit) (h : f_J19_checkLength x0 x1 = some r) : MP l D yJ19_checkLength cJ19_checkLength 2 none 0 0 [.int x0, .int x1] NoPre none := by
  refine MP.start (by decide +kernel) (Nat.le_of_ble_eq_true rfl) ?_
  intro p e s m below meth c ls hC hS hp hl
  obtain ⟨hx, hb, hr, hlk, hml, hown, hts, hnm⟩ := id hC
  have hl : lv_has ls 2 [(0, .int x0), (1, .int x1)] := hl
  unfold f_J19_checkLength at h
  have hS0 := hS
  obtain ⟨A, eA⟩ : ∃ A : Array Value, A = [.int x0, .int x1].toArray := ⟨_, rfl⟩
  rw [← eA] at hC hts ⊢
  obtain ⟨Q, eQ⟩ : ∃ Q : State → Prop, Q = MQ below (PQ none) A s 0 0 (fun _ => False) := ⟨_, rfl⟩
  show W p l e R_J19_checkLength s m A below meth c s.heap [] 0 0 _ _
  rw [← eQ]
  refine lv_iload_n hx hb dJ19_checkLength_0 rfl (lv_at hl 1 rfl) ?_
  refine lv_iload_n hx hb dJ19_checkLength_1 rfl (lv_at hl 0 rfl) ?_
  refine lv_icmp_ge (tgt := 37) hx hb dJ19_checkLength_2 (by decide) (fun c1 => ?_) (fun c1 => ?_)
  · have h := it_pos h c1
    obtain rfl := Option.some.inj h
    rw [eQ]
    exact p_vret hx hb hr hlk dJ19_checkLength_37
  · have h := it_neg h c1
    cases h

abbrev R_J19_copyOf : Room := { frames := 1, cells := 1, slots := 12, locals := 38 }
noncomputable def f_J19_copyOf (x0n : Nat) (x0c : Nat → Int32) (x1 : Int32) : Option (Nat × (Nat → Int32)) :=
  (if x1 = (nI x0n) then
    none
  else
    gl 12 x1 fun n3 =>
    Option.bind (f_J12_min (nI x0n) x1) fun o4 =>
    gd (x0n + 1) 0 fun i5 =>
    gd (n3 + 1) 0 fun i6 =>
    gd (x0n + 1) o4 fun i7 =>
    ask (Nat.ble (i5 + i7) x0n && Nat.ble (i6 + i7) n3) <|
    lt (va_cpy x0c (fun _ => 0) i5 i6 i7) fun f9 =>
    some (n3, f9)
  )
theorem hd_J19_copyOf : Hd yJ19_copyOf 2 := by unfold Hd; decide +kernel
set_option maxHeartbeats 4000000 in
set_option maxRecDepth 100000 in
theorem m_J19_copyOf {l : Launch} {D : DD} (x0 : Nat)  (x0n : Nat) (x0c : Nat → Int32) (x1 : Int32) (r : Nat × (Nat → Int32)) (h : f_J19_copyOf x0n x0c x1 = some r) : MT l D yJ19_copyOf cJ19_copyOf 3 (some (.array .int)) 1 38 1 12 [.ref x0, .int x1] (fun H => aI D x0 x0n x0c H ∧ x0n ≤ 1000000) (pR (fun H b H' => aI D b r.1 r.2 H' ∧ r.1 ≤ 1000000 ∧ H.size ≤ b ∧ Off (fun _ => False) H H')) := by
  refine MT.start (by decide +kernel) (Nat.le_of_ble_eq_true rfl) ?_
  intro p e s m below meth c ls hC hS hp hl
  obtain ⟨h_x0, l_x0⟩ := hp
  obtain ⟨hx, hb, hr, hlk, hml, hown, hts, hnm⟩ := id hC
  have hl : lv_has ls 3 [(0, .ref x0), (1, .int x1)] := hl
  unfold f_J19_copyOf at h
  have hS0 := hS
  obtain ⟨A, eA⟩ : ∃ A : Array Value, A = [.ref x0, .int x1].toArray := ⟨_, rfl⟩
  rw [← eA] at hC hts ⊢
  obtain ⟨Q, eQ⟩ : ∃ Q : State → Prop, Q = MQ below (TQ D (pR (fun H b H' => aI D b r.1 r.2 H' ∧ r.1 ≤ 1000000 ∧ H.size ≤ b ∧ Off (fun _ => False) H H'))) A s 1 12 (fun q => dB D ≤ q) := ⟨_, rfl⟩
  have hF : Off (fun _ => False) s.heap s.heap := Off.rf
  show W p l e R_J19_copyOf s m A below meth c s.heap [] 0 0 _ _
  rw [← eQ]
  obtain ⟨H, eH⟩ : ∃ H : Heap, H = s.heap := ⟨_, rfl⟩
  obtain ⟨locs, eLc⟩ : ∃ L : List Loc, L = [] := ⟨_, rfl⟩
  have lt_h_x0 := h_x0.lt
  rw [← eH, ← eLc]
  have hF : Off (fun _ => False) s.heap H := by rw [eH]; exact hF
  rw [← eH] at h_x0
  have hS : St D s H locs := by rw [eH, eLc]; exact hS
  refine lv_iload_n hx hb dJ19_copyOf_0 rfl (lv_at hl 1 rfl) ?_
  refine lv_aload_n hx hb dJ19_copyOf_1 rfl (lv_at hl 0 rfl) ?_
  refine r_alen hx hb hS h_x0 dJ19_copyOf_2 ?_
  refine lv_icmp_ne (tgt := 14) hx hb dJ19_copyOf_3 (by decide) (fun c1 => ?_) (fun c1 => ?_)
  · have h := it_neg h c1
    refine lv_iload_n hx hb dJ19_copyOf_14 rfl (lv_at hl 1 rfl) ?_
    obtain ⟨n3, xn3, h⟩ := gl_step (by decide) h
    refine r_newaB hx hb hts hS (ty := .int) rfl q453 12 n3 xn3 (by decide) (by decide) (Nat.le_of_ble_eq_true rfl) (Nat.le_of_ble_eq_true rfl) dJ19_copyOf_15 (fun ad2 H eq_ad2 hS hE had2 z_ad2 hB_had2 => ?_)
    have had2 : aI D ad2 n3 (fun _ => 0) H := had2
    have gad2 : s.heap.size ≤ ad2 := by have := hF.1; omega
    have ne_h_x0_had2 : x0 ≠ ad2 := by have := h_x0.lt; omega
    have h_x0 := h_x0.ext hE
    have hF := hF.trans (hE.mono (fun _ _ z => z.elim))
    refine lv_astore_n (lv' := [(2, .ref ad2), (0, .ref x0), (1, .int x1)]) hx hb dJ19_copyOf_17 rfl hl (by decide) rfl (fun ls hl => ?_)
    refine lv_aload_n hx hb dJ19_copyOf_18 rfl (lv_at hl 1 rfl) ?_
    refine lv_iconst (v := 0) hx hb dJ19_copyOf_19 (by decide) ?_
    refine lv_aload_n hx hb dJ19_copyOf_20 rfl (lv_at hl 0 rfl) ?_
    refine lv_iconst (v := 0) hx hb dJ19_copyOf_21 (by decide) ?_
    refine lv_aload_n hx hb dJ19_copyOf_22 rfl (lv_at hl 1 rfl) ?_
    refine r_alen hx hb hS h_x0 dJ19_copyOf_23 ?_
    refine lv_iload_n hx hb dJ19_copyOf_24 rfl (lv_at hl 2 rfl) ?_
    obtain ⟨o4, eo4, h⟩ := bind_step h
    refine r_cp (r_runS (rest := [.int 0, .ref ad2, .int 0, .ref x0]) (As := [.int (nI x0n), .int x1]) hC 2 (m_J12_min (nI x0n) x1  o4 eo4) q498 q259 q53 q260 hd_J12_min rfl ⟨Nat.le_of_ble_eq_true rfl, Nat.le_of_ble_eq_true rfl⟩ hS trivial hl.1 rfl (Nat.le_of_ble_eq_true rfl) dJ19_copyOf_25 ⟨Nat.le_of_ble_eq_true rfl, Nat.le_of_ble_eq_true rfl⟩) ?_
    obtain ⟨i5, xi5, h⟩ := gd_step (nl1 l_x0) h
    obtain ⟨i6, xi6, h⟩ := gd_step (nl1 (le_of_gl xn3 (by decide))) h
    obtain ⟨i7, xi7, h⟩ := gd_step (nl1 l_x0) h
    obtain ⟨b8, h⟩ := ask_step h
    rw [Bool.and_eq_true] at b8
    obtain ⟨f9, ef9, h⟩ := lt_step h
    refine r_copyI hC hS h_x0 had2 hB_had2 xi5 xi6 xi7 (Nat.le_of_ble_eq_true b8.1) (Nat.le_of_ble_eq_true b8.2) q499 q463 q462 q58 hl.1 ⟨Nat.le_of_ble_eq_true rfl, Nat.le_of_ble_eq_true rfl⟩ dJ19_copyOf_28 (fun H locs hS hO had2 => ?_)
    have had2 : aI D ad2 n3 f9 H := by rw [ef9]; exact had2
    have h_x0 := h_x0.off hO ne_h_x0_had2
    have hF := hF.fresh hO (fun a ha z => absurd (z ▸ ha) (Nat.not_lt.mpr gad2))
    refine lv_aload_n hx hb dJ19_copyOf_31 rfl (lv_at hl 0 rfl) ?_
    obtain rfl := Option.some.inj h
    rw [eQ]
    exact r_aret hx hb hr (Or.inr ⟨_, rfl⟩) hlk hS (Nat.le_of_ble_eq_true rfl) (Nat.le_of_ble_eq_true rfl) dJ19_copyOf_32 ⟨_, rfl, had2, (le_of_gl xn3 (by decide)), gad2, hF⟩
  · have h := it_pos h c1
    cases h

abbrev R_J19_copyOfRangeInt : Room := { frames := 1, cells := 1, slots := 12, locals := 38 }
noncomputable def f_J19_copyOfRangeInt (x0n : Nat) (x0c : Nat → Int32) (x1 : Int32) (x2 : Int32) : Option (Nat × (Nat → Int32)) :=
  Option.bind (f_J19_checkLength x1 x2) fun o1 =>
  lti (x2 - x1) fun v2 =>
  gl 12 v2 fun n4 =>
  lti ((nI x0n) - x1) fun v5 =>
  Option.bind (f_J12_min v5 v2) fun o6 =>
  gd (x0n + 1) x1 fun i7 =>
  gd (n4 + 1) 0 fun i8 =>
  gd (x0n + 1) o6 fun i9 =>
  ask (Nat.ble (i7 + i9) x0n && Nat.ble (i8 + i9) n4) <|
  lt (va_cpy x0c (fun _ => 0) i7 i8 i9) fun f11 =>
  some (n4, f11)
theorem hd_J19_copyOfRangeInt : Hd yJ19_copyOfRangeInt 3 := by unfold Hd; decide +kernel
set_option maxHeartbeats 4000000 in
set_option maxRecDepth 100000 in
theorem m_J19_copyOfRangeInt {l : Launch} {D : DD} (x0 : Nat)  (x0n : Nat) (x0c : Nat → Int32) (x1 : Int32) (x2 : Int32) (r : Nat × (Nat → Int32)) (h : f_J19_copyOfRangeInt x0n x0c x1 x2 = some r) : MT l D yJ19_copyOfRangeInt cJ19_copyOfRangeInt 5 (some (.array .int)) 1 38 1 12 [.ref x0, .int x1, .int x2] (fun H => aI D x0 x0n x0c H ∧ x0n ≤ 1000000) (pR (fun H b H' => aI D b r.1 r.2 H' ∧ r.1 ≤ 1000000 ∧ H.size ≤ b ∧ Off (fun _ => False) H H')) := by
  refine MT.start (by decide +kernel) (Nat.le_of_ble_eq_true rfl) ?_
  intro p e s m below meth c ls hC hS hp hl
  obtain ⟨h_x0, l_x0⟩ := hp
  obtain ⟨hx, hb, hr, hlk, hml, hown, hts, hnm⟩ := id hC
  have hl : lv_has ls 5 [(0, .ref x0), (1, .int x1), (2, .int x2)] := hl
  unfold f_J19_copyOfRangeInt at h
  have hS0 := hS
  obtain ⟨A, eA⟩ : ∃ A : Array Value, A = [.ref x0, .int x1, .int x2].toArray := ⟨_, rfl⟩
  rw [← eA] at hC hts ⊢
  obtain ⟨Q, eQ⟩ : ∃ Q : State → Prop, Q = MQ below (TQ D (pR (fun H b H' => aI D b r.1 r.2 H' ∧ r.1 ≤ 1000000 ∧ H.size ≤ b ∧ Off (fun _ => False) H H'))) A s 1 12 (fun q => dB D ≤ q) := ⟨_, rfl⟩
  have hF : Off (fun _ => False) s.heap s.heap := Off.rf
  show W p l e R_J19_copyOfRangeInt s m A below meth c s.heap [] 0 0 _ _
  rw [← eQ]
  obtain ⟨H, eH⟩ : ∃ H : Heap, H = s.heap := ⟨_, rfl⟩
  obtain ⟨locs, eLc⟩ : ∃ L : List Loc, L = [] := ⟨_, rfl⟩
  have lt_h_x0 := h_x0.lt
  rw [← eH, ← eLc]
  have hF : Off (fun _ => False) s.heap H := by rw [eH]; exact hF
  rw [← eH] at h_x0
  have hS : St D s H locs := by rw [eH, eLc]; exact hS
  refine lv_iload_n hx hb dJ19_copyOfRangeInt_0 rfl (lv_at hl 1 rfl) ?_
  refine lv_iload_n hx hb dJ19_copyOfRangeInt_1 rfl (lv_at hl 2 rfl) ?_
  obtain ⟨o1, eo1, h⟩ := bind_step h
  refine r_cpv (r_runS (rest := []) (As := [.int x1, .int x2]) hC 2 (m_J19_checkLength   x1 x2 o1 eo1) q731 q732 q61 q733 hd_J19_checkLength rfl ⟨Nat.le_of_ble_eq_true rfl, Nat.le_of_ble_eq_true rfl⟩ hS trivial hl.1 rfl (Nat.le_of_ble_eq_true rfl) dJ19_copyOfRangeInt_2 ⟨Nat.le_of_ble_eq_true rfl, Nat.le_of_ble_eq_true rfl⟩) ?_
  refine lv_iload_n hx hb dJ19_copyOfRangeInt_5 rfl (lv_at hl 2 rfl) ?_
  refine lv_iload_n hx hb dJ19_copyOfRangeInt_6 rfl (lv_at hl 1 rfl) ?_
  obtain ⟨v2, ev2, h⟩ := lti_step h
  refine r_isub hx hb ev2 dJ19_copyOfRangeInt_7 ?_
  refine lv_istore_n (lv' := [(3, .int v2), (0, .ref x0), (1, .int x1), (2, .int x2)]) hx hb dJ19_copyOfRangeInt_8 rfl hl (by decide) rfl (fun ls hl => ?_)
  refine lv_iload_n hx hb dJ19_copyOfRangeInt_9 rfl (lv_at hl 0 rfl) ?_
  obtain ⟨n4, xn4, h⟩ := gl_step (by decide) h
  refine r_newaB hx hb hts hS (ty := .int) rfl q453 12 n4 xn4 (by decide) (by decide) (Nat.le_of_ble_eq_true rfl) (Nat.le_of_ble_eq_true rfl) dJ19_copyOfRangeInt_10 (fun ad3 H eq_ad3 hS hE had3 z_ad3 hB_had3 => ?_)
  have had3 : aI D ad3 n4 (fun _ => 0) H := had3
  have gad3 : s.heap.size ≤ ad3 := by have := hF.1; omega
  have ne_h_x0_had3 : x0 ≠ ad3 := by have := h_x0.lt; omega
  have h_x0 := h_x0.ext hE
  have hF := hF.trans (hE.mono (fun _ _ z => z.elim))
  refine lv_astore (lv' := [(4, .ref ad3), (3, .int v2), (0, .ref x0), (1, .int x1), (2, .int x2)]) hx hb dJ19_copyOfRangeInt_12 hl (by decide) rfl (fun ls hl => ?_)
  refine lv_aload_n hx hb dJ19_copyOfRangeInt_14 rfl (lv_at hl 2 rfl) ?_
  refine lv_iload_n hx hb dJ19_copyOfRangeInt_15 rfl (lv_at hl 3 rfl) ?_
  refine lv_aload hx hb dJ19_copyOfRangeInt_16 (lv_at hl 0 rfl) ?_
  refine lv_iconst (v := 0) hx hb dJ19_copyOfRangeInt_18 (by decide) ?_
  refine lv_aload_n hx hb dJ19_copyOfRangeInt_19 rfl (lv_at hl 2 rfl) ?_
  refine r_alen hx hb hS h_x0 dJ19_copyOfRangeInt_20 ?_
  refine lv_iload_n hx hb dJ19_copyOfRangeInt_21 rfl (lv_at hl 3 rfl) ?_
  obtain ⟨v5, ev5, h⟩ := lti_step h
  refine r_isub hx hb ev5 dJ19_copyOfRangeInt_22 ?_
  refine lv_iload_n hx hb dJ19_copyOfRangeInt_23 rfl (lv_at hl 1 rfl) ?_
  obtain ⟨o6, eo6, h⟩ := bind_step h
  refine r_cp (r_runS (rest := [.int 0, .ref ad3, .int x1, .ref x0]) (As := [.int v5, .int v2]) hC 2 (m_J12_min v5 v2  o6 eo6) q498 q259 q53 q260 hd_J12_min rfl ⟨Nat.le_of_ble_eq_true rfl, Nat.le_of_ble_eq_true rfl⟩ hS trivial hl.1 rfl (Nat.le_of_ble_eq_true rfl) dJ19_copyOfRangeInt_24 ⟨Nat.le_of_ble_eq_true rfl, Nat.le_of_ble_eq_true rfl⟩) ?_
  obtain ⟨i7, xi7, h⟩ := gd_step (nl1 l_x0) h
  obtain ⟨i8, xi8, h⟩ := gd_step (nl1 (le_of_gl xn4 (by decide))) h
  obtain ⟨i9, xi9, h⟩ := gd_step (nl1 l_x0) h
  obtain ⟨b10, h⟩ := ask_step h
  rw [Bool.and_eq_true] at b10
  obtain ⟨f11, ef11, h⟩ := lt_step h
  refine r_copyI hC hS h_x0 had3 hB_had3 xi7 xi8 xi9 (Nat.le_of_ble_eq_true b10.1) (Nat.le_of_ble_eq_true b10.2) q499 q463 q462 q58 hl.1 ⟨Nat.le_of_ble_eq_true rfl, Nat.le_of_ble_eq_true rfl⟩ dJ19_copyOfRangeInt_27 (fun H locs hS hO had3 => ?_)
  have had3 : aI D ad3 n4 f11 H := by rw [ef11]; exact had3
  have h_x0 := h_x0.off hO ne_h_x0_had3
  have hF := hF.fresh hO (fun a ha z => absurd (z ▸ ha) (Nat.not_lt.mpr gad3))
  refine lv_aload hx hb dJ19_copyOfRangeInt_30 (lv_at hl 0 rfl) ?_
  obtain rfl := Option.some.inj h
  rw [eQ]
  exact r_aret hx hb hr (Or.inr ⟨_, rfl⟩) hlk hS (Nat.le_of_ble_eq_true rfl) (Nat.le_of_ble_eq_true rfl) dJ19_copyOfRangeInt_32 ⟨_, rfl, had3, (le_of_gl xn4 (by decide)), gad3, hF⟩

abbrev R_J19_copyOfRange_2 : Room := { frames := 2, cells := 1, slots := 12, locals := 62 }
noncomputable def f_J19_copyOfRange_2 (x0n : Nat) (x0c : Nat → Int32) (x1 : Int32) (x2 : Int32) : Option (Nat × (Nat → Int32)) :=
  (if x1 = 0 then
    (if x2 = (nI x0n) then
      none
    else
      Option.bind (f_J19_copyOfRangeInt x0n x0c x1 x2) fun o5 =>
      some (o5.1, o5.2)
    )
  else
    Option.bind (f_J19_copyOfRangeInt x0n x0c x1 x2) fun o2 =>
    some (o2.1, o2.2)
  )
theorem hd_J19_copyOfRange_2 : Hd yJ19_copyOfRange_2 3 := by unfold Hd; decide +kernel
set_option maxHeartbeats 4000000 in
set_option maxRecDepth 100000 in
theorem m_J19_copyOfRange_2 {l : Launch} {D : DD} (x0 : Nat)  (x0n : Nat) (x0c : Nat → Int32) (x1 : Int32) (x2 : Int32) (r : Nat × (Nat → Int32)) (h : f_J19_copyOfRange_2 x0n x0c x1 x2 = some r) : MT l D yJ19_copyOfRange_2 cJ19_copyOfRange_2 3 (some (.array .int)) 2 62 1 12 [.ref x0, .int x1, .int x2] (fun H => aI D x0 x0n x0c H ∧ x0n ≤ 1000000) (pR (fun H b H' => aI D b r.1 r.2 H' ∧ r.1 ≤ 1000000 ∧ H.size ≤ b ∧ Off (fun _ => False) H H')) := by
  refine MT.start (by decide +kernel) (Nat.le_of_ble_eq_true rfl) ?_
  intro p e s m below meth c ls hC hS hp hl
  obtain ⟨h_x0, l_x0⟩ := hp
  obtain ⟨hx, hb, hr, hlk, hml, hown, hts, hnm⟩ := id hC
  have hl : lv_has ls 3 [(0, .ref x0), (1, .int x1), (2, .int x2)] := hl
  unfold f_J19_copyOfRange_2 at h
  have hS0 := hS
  obtain ⟨A, eA⟩ : ∃ A : Array Value, A = [.ref x0, .int x1, .int x2].toArray := ⟨_, rfl⟩
  rw [← eA] at hC hts ⊢
  obtain ⟨Q, eQ⟩ : ∃ Q : State → Prop, Q = MQ below (TQ D (pR (fun H b H' => aI D b r.1 r.2 H' ∧ r.1 ≤ 1000000 ∧ H.size ≤ b ∧ Off (fun _ => False) H H'))) A s 1 12 (fun q => dB D ≤ q) := ⟨_, rfl⟩
  have hF : Off (fun _ => False) s.heap s.heap := Off.rf
  show W p l e R_J19_copyOfRange_2 s m A below meth c s.heap [] 0 0 _ _
  rw [← eQ]
  obtain ⟨H, eH⟩ : ∃ H : Heap, H = s.heap := ⟨_, rfl⟩
  obtain ⟨locs, eLc⟩ : ∃ L : List Loc, L = [] := ⟨_, rfl⟩
  have lt_h_x0 := h_x0.lt
  rw [← eH, ← eLc]
  have hF : Off (fun _ => False) s.heap H := by rw [eH]; exact hF
  rw [← eH] at h_x0
  have hS : St D s H locs := by rw [eH, eLc]; exact hS
  refine lv_iload_n hx hb dJ19_copyOfRange_2_0 rfl (lv_at hl 1 rfl) ?_
  refine lv_if_ne (tgt := 10) hx hb dJ19_copyOfRange_2_1 (by decide) (fun c1 => ?_) (fun c1 => ?_)
  · have h := it_neg h c1
    refine lv_aload_n hx hb dJ19_copyOfRange_2_10 rfl (lv_at hl 0 rfl) ?_
    refine lv_iload_n hx hb dJ19_copyOfRange_2_11 rfl (lv_at hl 1 rfl) ?_
    refine lv_iload_n hx hb dJ19_copyOfRange_2_12 rfl (lv_at hl 2 rfl) ?_
    obtain ⟨o2, eo2, h⟩ := bind_step h
    refine r_cr (r_runS (rest := []) (As := [.ref x0, .int x1, .int x2]) hC 3 (m_J19_copyOfRangeInt x0  x0n x0c x1 x2 o2 eo2) q801 q802 q61 q803 hd_J19_copyOfRangeInt rfl ⟨Nat.le_of_ble_eq_true rfl, Nat.le_of_ble_eq_true rfl⟩ hS ⟨h_x0, l_x0⟩ hl.1 rfl (Nat.le_of_ble_eq_true rfl) dJ19_copyOfRange_2_13 ⟨Nat.le_of_ble_eq_true rfl, Nat.le_of_ble_eq_true rfl⟩) hS (fun ad3 H locs hp hS hz => ?_)
    obtain ⟨had3, lo2_1, frad3, hO⟩ := hp
    have ne_h_x0_had3 : x0 ≠ ad3 := Nat.ne_of_lt (Nat.lt_of_lt_of_le h_x0.lt frad3)
    have gad3 : s.heap.size ≤ ad3 := Nat.le_trans hF.1 frad3
    have hB_had3 : dB D ≤ ad3 := by have := hS0.1.2.2.1; omega
    have h_x0 := h_x0.ext hO
    have hF := hF.trans (hO.mono (fun _ _ z => z.elim))
    obtain rfl := Option.some.inj h
    rw [eQ]
    exact r_aret hx hb hr (Or.inr ⟨_, rfl⟩) hlk hS (Nat.le_of_ble_eq_true rfl) (Nat.le_of_ble_eq_true rfl) dJ19_copyOfRange_2_16 ⟨_, rfl, had3, lo2_1, gad3, hF⟩
  · have h := it_pos h c1
    refine lv_iload_n hx hb dJ19_copyOfRange_2_4 rfl (lv_at hl 2 rfl) ?_
    refine lv_aload_n hx hb dJ19_copyOfRange_2_5 rfl (lv_at hl 0 rfl) ?_
    refine r_alen hx hb hS h_x0 dJ19_copyOfRange_2_6 ?_
    refine lv_icmp_eq (tgt := 17) hx hb dJ19_copyOfRange_2_7 (by decide) (fun c4 => ?_) (fun c4 => ?_)
    · have h := it_pos h c4
      cases h
    · have h := it_neg h c4
      refine lv_aload_n hx hb dJ19_copyOfRange_2_10 rfl (lv_at hl 0 rfl) ?_
      refine lv_iload_n hx hb dJ19_copyOfRange_2_11 rfl (lv_at hl 1 rfl) ?_
      refine lv_iload_n hx hb dJ19_copyOfRange_2_12 rfl (lv_at hl 2 rfl) ?_
      obtain ⟨o5, eo5, h⟩ := bind_step h
      refine r_cr (r_runS (rest := []) (As := [.ref x0, .int x1, .int x2]) hC 3 (m_J19_copyOfRangeInt x0  x0n x0c x1 x2 o5 eo5) q801 q802 q61 q803 hd_J19_copyOfRangeInt rfl ⟨Nat.le_of_ble_eq_true rfl, Nat.le_of_ble_eq_true rfl⟩ hS ⟨h_x0, l_x0⟩ hl.1 rfl (Nat.le_of_ble_eq_true rfl) dJ19_copyOfRange_2_13 ⟨Nat.le_of_ble_eq_true rfl, Nat.le_of_ble_eq_true rfl⟩) hS (fun ad6 H locs hp hS hz => ?_)
      obtain ⟨had6, lo5_1, frad6, hO⟩ := hp
      have ne_h_x0_had6 : x0 ≠ ad6 := Nat.ne_of_lt (Nat.lt_of_lt_of_le h_x0.lt frad6)
      have gad6 : s.heap.size ≤ ad6 := Nat.le_trans hF.1 frad6
      have hB_had6 : dB D ≤ ad6 := by have := hS0.1.2.2.1; omega
      have h_x0 := h_x0.ext hO
      have hF := hF.trans (hO.mono (fun _ _ z => z.elim))
      obtain rfl := Option.some.inj h
      rw [eQ]
      exact r_aret hx hb hr (Or.inr ⟨_, rfl⟩) hlk hS (Nat.le_of_ble_eq_true rfl) (Nat.le_of_ble_eq_true rfl) dJ19_copyOfRange_2_16 ⟨_, rfl, had6, lo5_1, gad6, hF⟩

abbrev R_J16_shiftLeftImplWorker : Room := { frames := 0, cells := 0, slots := 0, locals := 0 }
noncomputable def f_J16_shiftLeftImplWorker (x0n : Nat) (x0c : Nat → Int32) (x1n : Nat) (x1c : Nat → Int32) (x2 : Int32) (x3 : Int32) (x4 : Int32) : Option ((Nat → Int32)) :=
  lti (32 - x3) fun v1 =>
  lt (fun (f2 : Nat → Int32) (v3 : Int32) (v4 : Int32) =>
  (show Option (Sum ((Nat → Int32) × Int32 × Int32) ((Nat → Int32))) from (
  (if x4 ≤ v4 then
    some (.inr f2)
  else
    lti (v3 + 1) fun v22 =>
    lti (v4 + 1) fun v23 =>
    gd x1n v4 fun i24 =>
    lti (x1c i24) fun v25 =>
    lti (v25 <<< (x3 &&& 31)) fun v26 =>
    gd x1n v23 fun i27 =>
    lti (x1c i27) fun v28 =>
    lti (((v28 : Int32).toUInt32 >>> ((v1 : Int32).toUInt32 &&& Int32.toUInt32 31)).toInt32) fun v29 =>
    lti (v26 ||| v29) fun v30 =>
    gd x0n v3 fun i31 =>
    lt (va_up f2 i31 v30) fun f32 =>
    some (.inl (f32, v22, v23))
  )
  ))
  ) fun F18 =>
  Option.bind (lp 41 (fun x => F18 x.1 x.2.1 x.2.2) (x0c, x2, 0)) fun w19 =>
  some w19
theorem hd_J16_shiftLeftImplWorker : Hd yJ16_shiftLeftImplWorker 5 := by unfold Hd; decide +kernel
set_option maxHeartbeats 4000000 in
set_option maxRecDepth 100000 in
theorem m_J16_shiftLeftImplWorker {l : Launch} {D : DD} (x0 : Nat) (x1 : Nat)  (x0n : Nat) (x0c : Nat → Int32) (x1n : Nat) (x1c : Nat → Int32) (x2 : Int32) (x3 : Int32) (x4 : Int32) (r : (Nat → Int32)) (h : f_J16_shiftLeftImplWorker x0n x0c x1n x1c x2 x3 x4 = some r) : MT l D yJ16_shiftLeftImplWorker cJ16_shiftLeftImplWorker 7 none 0 0 0 0 [.ref x0, .ref x1, .int x2, .int x3, .int x4] (fun H => aI D x0 x0n x0c H ∧ x0n ≤ 1000000 ∧ dB D ≤ x0 ∧ aI D x1 x1n x1c H ∧ x1n ≤ 1000000 ∧ x0 ≠ x1) (pV (fun H H' => aI D x0 x0n r H' ∧ Off (fun a => a = x0) H H')) := by
  refine MT.start (by decide +kernel) (Nat.le_of_ble_eq_true rfl) ?_
  intro p e s m below meth c ls hC hS hp hl
  obtain ⟨h_x0, l_x0, hB_h_x0, h_x1, l_x1, ne_x0_x1⟩ := hp
  obtain ⟨hx, hb, hr, hlk, hml, hown, hts, hnm⟩ := id hC
  have hl : lv_has ls 7 [(0, .ref x0), (1, .ref x1), (2, .int x2), (3, .int x3), (4, .int x4)] := hl
  unfold f_J16_shiftLeftImplWorker at h
  have hS0 := hS
  obtain ⟨A, eA⟩ : ∃ A : Array Value, A = [.ref x0, .ref x1, .int x2, .int x3, .int x4].toArray := ⟨_, rfl⟩
  rw [← eA] at hC hts ⊢
  obtain ⟨Q, eQ⟩ : ∃ Q : State → Prop, Q = MQ below (TQ D (pV (fun H H' => aI D x0 x0n r H' ∧ Off (fun a => a = x0) H H'))) A s 0 0 (fun q => dB D ≤ q) := ⟨_, rfl⟩
  have hF : Off (fun a => a = x0) s.heap s.heap := Off.rf
  show W p l e R_J16_shiftLeftImplWorker s m A below meth c s.heap [] 0 0 _ _
  rw [← eQ]
  obtain ⟨H, eH⟩ : ∃ H : Heap, H = s.heap := ⟨_, rfl⟩
  obtain ⟨locs, eLc⟩ : ∃ L : List Loc, L = [] := ⟨_, rfl⟩
  have lt_h_x0 := h_x0.lt
  have lt_h_x1 := h_x1.lt
  rw [← eH, ← eLc]
  have hF : Off (fun a => a = x0) s.heap H := by rw [eH]; exact hF
  rw [← eH] at h_x0
  rw [← eH] at h_x1
  have hS : St D s H locs := by rw [eH, eLc]; exact hS
  refine lv_bipush (v := 32) hx hb dJ16_shiftLeftImplWorker_0 (by decide) ?_
  refine lv_iload_n hx hb dJ16_shiftLeftImplWorker_2 rfl (lv_at hl 3 rfl) ?_
  obtain ⟨v1, ev1, h⟩ := lti_step h
  refine r_isub hx hb ev1 dJ16_shiftLeftImplWorker_3 ?_
  refine lv_istore (lv' := [(5, .int v1), (0, .ref x0), (1, .ref x1), (2, .int x2), (3, .int x3), (4, .int x4)]) hx hb dJ16_shiftLeftImplWorker_4 hl (by decide) rfl (fun ls hl => ?_)
  refine lv_iconst (v := 0) hx hb dJ16_shiftLeftImplWorker_6 (by decide) ?_
  refine lv_istore (lv' := [(6, .int 0), (5, .int v1), (0, .ref x0), (1, .ref x1), (2, .int x2), (3, .int x3), (4, .int x4)]) hx hb dJ16_shiftLeftImplWorker_7 hl (by decide) rfl (fun ls hl => ?_)
  obtain ⟨F18, eF18, h⟩ := lt_step h
  obtain ⟨w19, ew19, h⟩ := bind_step h
  have HL : ∀ (n : Nat) (f2 : Nat → Int32) (v3 : Int32) (v4 : Int32) (w19 : (Nat → Int32)) (hk0 : lp n (fun x => F18 x.1 x.2.1 x.2.2) (f2, v3, v4) = some w19)  (H : Heap) (locs : List Loc) (hS : St D s H locs) (hF : Off (fun a => a = x0) s.heap H) (h_x0 : aI D x0 x0n f2 H) (h_x1 : aI D x1 x1n x1c H) (ls : Array Slot) (hl : lv_has ls 7 [(0, .ref x0), (1, .ref x1), (2, .int v3), (3, .int x3), (4, .int x4), (5, .int v1), (6, .int v4)]) (K42 : ∀ (H : Heap) (locs : List Loc) (hS : St D s H locs) (hF : Off (fun a => a = x0) s.heap H) (h_x0 : aI D x0 x0n w19 H) (h_x1 : aI D x1 x1n x1c H) (ls : Array Slot) (hl : lv_has ls 7 []), W p l e R_J16_shiftLeftImplWorker s m A below meth c H locs 0 0 Q (F0 m 42 ls [])), W p l e R_J16_shiftLeftImplWorker s m A below meth c H locs 0 0 Q (F0 m 9 ls []) := by
    intro n
    induction n with
    | zero => intro f2 v3 v4 w19 hk0  H locs hS hF h_x0 h_x1 ls hl K42; exact lp_zero hk0
    | succ n ih =>
      intro f2 v3 v4 w19 hk0  H locs hS hF h_x0 h_x1 ls hl K42
      obtain ⟨z20, hz, hk⟩ := lp_step hk0
      have h := (congrFun (congrFun (congrFun (eF18) f2) v3) v4).symm.trans hz
      refine lv_iload hx hb dJ16_shiftLeftImplWorker_9 (lv_at hl 6 rfl) ?_
      refine lv_iload hx hb dJ16_shiftLeftImplWorker_11 (lv_at hl 4 rfl) ?_
      refine lv_icmp_ge (tgt := 42) hx hb dJ16_shiftLeftImplWorker_13 (by decide) (fun c21 => ?_) (fun c21 => ?_)
      · have h := it_pos h c21
        obtain rfl := Option.some.inj h
        obtain rfl := id hk
        exact K42 H locs hS hF h_x0 h_x1 ls (lv_sub hl [] rfl)
      · have h := it_neg h c21
        refine lv_aload_n hx hb dJ16_shiftLeftImplWorker_16 rfl (lv_at hl 0 rfl) ?_
        refine lv_iload_n hx hb dJ16_shiftLeftImplWorker_17 rfl (lv_at hl 2 rfl) ?_
        obtain ⟨v22, ev22, h⟩ := lti_step h
        refine lv_iinc (v := v22) (lv' := [(2, .int v22), (0, .ref x0), (1, .ref x1), (3, .int x3), (4, .int x4), (5, .int v1), (6, .int v4)]) hx hb dJ16_shiftLeftImplWorker_18 hl (k := 2) rfl (by rw [ev22]; rfl) (by decide) rfl (fun ls hl => ?_)
        refine lv_aload_n hx hb dJ16_shiftLeftImplWorker_21 rfl (lv_at hl 2 rfl) ?_
        refine lv_iload hx hb dJ16_shiftLeftImplWorker_22 (lv_at hl 6 rfl) ?_
        obtain ⟨v23, ev23, h⟩ := lti_step h
        refine lv_iinc (v := v23) (lv' := [(6, .int v23), (2, .int v22), (0, .ref x0), (1, .ref x1), (3, .int x3), (4, .int x4), (5, .int v1)]) hx hb dJ16_shiftLeftImplWorker_24 hl (k := 6) rfl (by rw [ev23]; rfl) (by decide) rfl (fun ls hl => ?_)
        obtain ⟨i24, xi24, h⟩ := gd_step (nl0 l_x1) h
        refine r_iald hx hb hS h_x1 i24 xi24 dJ16_shiftLeftImplWorker_27 ?_
        obtain ⟨v25, ev25, h⟩ := lti_step h
        refine r_nmI ev25 ?_
        refine lv_iload_n hx hb dJ16_shiftLeftImplWorker_28 rfl (lv_at hl 4 rfl) ?_
        obtain ⟨v26, ev26, h⟩ := lti_step h
        refine r_ishl hx hb ev26 dJ16_shiftLeftImplWorker_29 ?_
        refine lv_aload_n hx hb dJ16_shiftLeftImplWorker_30 rfl (lv_at hl 3 rfl) ?_
        refine lv_iload hx hb dJ16_shiftLeftImplWorker_31 (lv_at hl 0 rfl) ?_
        obtain ⟨i27, xi27, h⟩ := gd_step (nl0 l_x1) h
        refine r_iald hx hb hS h_x1 i27 xi27 dJ16_shiftLeftImplWorker_33 ?_
        obtain ⟨v28, ev28, h⟩ := lti_step h
        refine r_nmI ev28 ?_
        refine lv_iload hx hb dJ16_shiftLeftImplWorker_34 (lv_at hl 6 rfl) ?_
        obtain ⟨v29, ev29, h⟩ := lti_step h
        refine r_iushr hx hb ev29 dJ16_shiftLeftImplWorker_36 ?_
        obtain ⟨v30, ev30, h⟩ := lti_step h
        refine r_ior hx hb ev30 dJ16_shiftLeftImplWorker_37 ?_
        obtain ⟨i31, xi31, h⟩ := gd_step (nl0 l_x0) h
        obtain ⟨f32, ef32, h⟩ := lt_step h
        refine r_iast hx hb hS h_x0 hB_h_x0 i31 xi31 dJ16_shiftLeftImplWorker_38 (fun H locs hS hO h_x0 => ?_)
        have h_x0 : aI D x0 x0n f32 H := by rw [ef32]; exact h_x0
        have h_x1 := h_x1.off hO (Ne.symm ne_x0_x1)
        have hF := hF.fresh hO (fun a ha z => z)
        refine lv_goto (tgt := 9) hx hb dJ16_shiftLeftImplWorker_39 (by decide) ?_
        obtain rfl := Option.some.inj h
        exact ih f32 v22 v23 w19 hk  H locs hS hF h_x0 h_x1 ls (lv_sub hl [2, 3, 1, 4, 5, 6, 0] rfl) K42
  clear eF18
  refine HL 41 x0c x2 0 w19 ew19  H locs hS hF h_x0 h_x1 ls (lv_sub hl [2, 3, 4, 5, 6, 1, 0] rfl) (fun  H locs hS hF h_x0 h_x1 ls hl => ?_)
  obtain rfl := Option.some.inj h
  rw [eQ]
  exact r_vret hx hb hr hlk hS (Nat.le_of_ble_eq_true rfl) (Nat.le_of_ble_eq_true rfl) dJ16_shiftLeftImplWorker_42 ⟨rfl, h_x0, hF⟩

abbrev R_J16_shiftLeft_2 : Room := { frames := 2, cells := 1, slots := 12, locals := 45 }
noncomputable def f_J16_shiftLeft_2 (x0n : Nat) (x0c : Nat → Int32) (x1 : Int32) : Option (Nat × (Nat → Int32)) :=
  lti (((x1 : Int32).toUInt32 >>> ((5 : Int32).toUInt32 &&& Int32.toUInt32 31)).toInt32) fun v1 =>
  lti (x1 &&& 31) fun v2 =>
  (if v2 = 0 then
    lti ((nI x0n) + v1) fun v37 =>
    gl 12 v37 fun n39 =>
    gd (x0n + 1) 0 fun i40 =>
    gd (n39 + 1) 0 fun i41 =>
    gd (x0n + 1) (nI x0n) fun i42 =>
    ask (Nat.ble (i40 + i42) x0n && Nat.ble (i41 + i42) n39) <|
    lt (va_cpy x0c (fun _ => 0) i40 i41 i42) fun f44 =>
    some (n39, f44)
  else
    lti (32 - v2) fun v4 =>
    gd x0n 0 fun i5 =>
    lti (x0c i5) fun v6 =>
    lti (((v6 : Int32).toUInt32 >>> ((v4 : Int32).toUInt32 &&& Int32.toUInt32 31)).toInt32) fun v7 =>
    lt (fun (n9 : Nat) (f10 : Nat → Int32) (v11 : Int32) =>
    lti ((nI x0n) - 1) fun v13 =>
    lti (v13 + 1) fun v14 =>
    Option.bind (f_J17_checkFromToIndex 0 v14 (nI x0n)) fun o15 =>
    lti (v13 + v11) fun v16 =>
    lti (v16 + 1) fun v17 =>
    Option.bind (f_J17_checkFromToIndex v11 v17 (nI n9)) fun o18 =>
    Option.bind (f_J16_shiftLeftImplWorker n9 f10 x0n x0c v11 v2 v13) fun o19 =>
    lti (v13 + v11) fun v20 =>
    gd x0n v13 fun i21 =>
    lti (x0c i21) fun v22 =>
    lti (v22 <<< (v2 &&& 31)) fun v23 =>
    gd n9 v20 fun i24 =>
    lt (va_up o19 i24 v23) fun f25 =>
    some (n9, f25)
    ) fun K12 =>
    (if v7 = 0 then
      lti ((nI x0n) + v1) fun v27 =>
      gl 12 v27 fun n29 =>
      K12 n29 (fun _ => 0) 0
    else
      lti ((nI x0n) + v1) fun v30 =>
      lti (v30 + 1) fun v31 =>
      gl 12 v31 fun n33 =>
      lti (0 + 1) fun v34 =>
      gd n33 0 fun i35 =>
      lt (va_up (fun _ => 0) i35 v7) fun f36 =>
      K12 n33 f36 v34
    )
  )
theorem hd_J16_shiftLeft_2 : Hd yJ16_shiftLeft_2 2 := by unfold Hd; decide +kernel
set_option maxHeartbeats 4000000 in
set_option maxRecDepth 100000 in
theorem m_J16_shiftLeft_2 {l : Launch} {D : DD} (x0 : Nat)  (x0n : Nat) (x0c : Nat → Int32) (x1 : Int32) (r : Nat × (Nat → Int32)) (h : f_J16_shiftLeft_2 x0n x0c x1 = some r) : MT l D yJ16_shiftLeft_2 cJ16_shiftLeft_2 10 (some (.array .int)) 2 45 1 12 [.ref x0, .int x1] (fun H => aI D x0 x0n x0c H ∧ x0n ≤ 1000000) (pR (fun H b H' => aI D b r.1 r.2 H' ∧ r.1 ≤ 1000000 ∧ H.size ≤ b ∧ Off (fun _ => False) H H')) := by
  refine MT.start (by decide +kernel) (Nat.le_of_ble_eq_true rfl) ?_
  intro p e s m below meth c ls hC hS hp hl
  obtain ⟨h_x0, l_x0⟩ := hp
  obtain ⟨hx, hb, hr, hlk, hml, hown, hts, hnm⟩ := id hC
  have hl : lv_has ls 10 [(0, .ref x0), (1, .int x1)] := hl
  unfold f_J16_shiftLeft_2 at h
  have hS0 := hS
  obtain ⟨A, eA⟩ : ∃ A : Array Value, A = [.ref x0, .int x1].toArray := ⟨_, rfl⟩
  rw [← eA] at hC hts ⊢
  obtain ⟨Q, eQ⟩ : ∃ Q : State → Prop, Q = MQ below (TQ D (pR (fun H b H' => aI D b r.1 r.2 H' ∧ r.1 ≤ 1000000 ∧ H.size ≤ b ∧ Off (fun _ => False) H H'))) A s 1 12 (fun q => dB D ≤ q) := ⟨_, rfl⟩
  have hF : Off (fun _ => False) s.heap s.heap := Off.rf
  show W p l e R_J16_shiftLeft_2 s m A below meth c s.heap [] 0 0 _ _
  rw [← eQ]
  obtain ⟨H, eH⟩ : ∃ H : Heap, H = s.heap := ⟨_, rfl⟩
  obtain ⟨locs, eLc⟩ : ∃ L : List Loc, L = [] := ⟨_, rfl⟩
  have lt_h_x0 := h_x0.lt
  rw [← eH, ← eLc]
  have hF : Off (fun _ => False) s.heap H := by rw [eH]; exact hF
  rw [← eH] at h_x0
  have hS : St D s H locs := by rw [eH, eLc]; exact hS
  refine lv_iload_n hx hb dJ16_shiftLeft_2_0 rfl (lv_at hl 1 rfl) ?_
  refine lv_iconst (v := 5) hx hb dJ16_shiftLeft_2_1 (by decide) ?_
  obtain ⟨v1, ev1, h⟩ := lti_step h
  refine r_iushr hx hb ev1 dJ16_shiftLeft_2_2 ?_
  refine lv_istore_n (lv' := [(2, .int v1), (0, .ref x0), (1, .int x1)]) hx hb dJ16_shiftLeft_2_3 rfl hl (by decide) rfl (fun ls hl => ?_)
  refine lv_iload_n hx hb dJ16_shiftLeft_2_4 rfl (lv_at hl 2 rfl) ?_
  refine lv_bipush (v := 31) hx hb dJ16_shiftLeft_2_5 (by decide) ?_
  obtain ⟨v2, ev2, h⟩ := lti_step h
  refine r_iand hx hb ev2 dJ16_shiftLeft_2_7 ?_
  refine lv_istore_n (lv' := [(3, .int v2), (2, .int v1), (0, .ref x0), (1, .int x1)]) hx hb dJ16_shiftLeft_2_8 rfl hl (by decide) rfl (fun ls hl => ?_)
  refine lv_aload_n hx hb dJ16_shiftLeft_2_9 rfl (lv_at hl 2 rfl) ?_
  refine r_alen hx hb hS h_x0 dJ16_shiftLeft_2_10 ?_
  refine lv_istore (lv' := [(4, .int (nI x0n)), (3, .int v2), (2, .int v1), (0, .ref x0), (1, .int x1)]) hx hb dJ16_shiftLeft_2_11 hl (by decide) rfl (fun ls hl => ?_)
  refine lv_null hx hb dJ16_shiftLeft_2_13 ?_
  refine lv_astoreN (lv' := [(5, .null), (4, .int (nI x0n)), (3, .int v2), (2, .int v1), (0, .ref x0), (1, .int x1)]) hx hb dJ16_shiftLeft_2_14 hl (by decide) rfl (fun ls hl => ?_)
  refine lv_iload_n hx hb dJ16_shiftLeft_2_16 rfl (lv_at hl 2 rfl) ?_
  refine lv_if_ne (tgt := 41) hx hb dJ16_shiftLeft_2_17 (by decide) (fun c3 => ?_) (fun c3 => ?_)
  · have h := it_neg h c3
    refine lv_iconst (v := 0) hx hb dJ16_shiftLeft_2_41 (by decide) ?_
    refine lv_istore (lv' := [(6, .int 0), (5, .null), (4, .int (nI x0n)), (3, .int v2), (2, .int v1), (0, .ref x0), (1, .int x1)]) hx hb dJ16_shiftLeft_2_42 hl (by decide) rfl (fun ls hl => ?_)
    refine lv_bipush (v := 32) hx hb dJ16_shiftLeft_2_44 (by decide) ?_
    refine lv_iload_n hx hb dJ16_shiftLeft_2_46 rfl (lv_at hl 3 rfl) ?_
    obtain ⟨v4, ev4, h⟩ := lti_step h
    refine r_isub hx hb ev4 dJ16_shiftLeft_2_47 ?_
    refine lv_istore (lv' := [(7, .int v4), (6, .int 0), (5, .null), (4, .int (nI x0n)), (3, .int v2), (2, .int v1), (0, .ref x0), (1, .int x1)]) hx hb dJ16_shiftLeft_2_48 hl (by decide) rfl (fun ls hl => ?_)
    refine lv_aload_n hx hb dJ16_shiftLeft_2_50 rfl (lv_at hl 6 rfl) ?_
    refine lv_iconst (v := 0) hx hb dJ16_shiftLeft_2_51 (by decide) ?_
    obtain ⟨i5, xi5, h⟩ := gd_step (nl0 l_x0) h
    refine r_iald hx hb hS h_x0 i5 xi5 dJ16_shiftLeft_2_52 ?_
    obtain ⟨v6, ev6, h⟩ := lti_step h
    refine r_nmI ev6 ?_
    refine lv_iload hx hb dJ16_shiftLeft_2_53 (lv_at hl 0 rfl) ?_
    obtain ⟨v7, ev7, h⟩ := lti_step h
    refine r_iushr hx hb ev7 dJ16_shiftLeft_2_55 ?_
    refine lv_istore (lv' := [(8, .int v7), (7, .int v4), (6, .int 0), (5, .null), (4, .int (nI x0n)), (3, .int v2), (2, .int v1), (0, .ref x0), (1, .int x1)]) hx hb dJ16_shiftLeft_2_56 hl (by decide) rfl (fun ls hl => ?_)
    refine lv_iload hx hb dJ16_shiftLeft_2_58 (lv_at hl 0 rfl) ?_
    obtain ⟨K12, eK12, h⟩ := lt_step h
    have HK12 : ∀ (n9 : Nat) (f10 : Nat → Int32) (v11 : Int32) (h : K12 n9 f10 v11 = some r) (ad8 : Nat) (ln9 : n9 ≤ 1000000) (hB_had8 : dB D ≤ ad8) (gad8 : s.heap.size ≤ ad8) (ne_h_x0_had8 : x0 ≠ ad8) (H : Heap) (locs : List Loc) (hS : St D s H locs) (hF : Off (fun _ => False) s.heap H) (h_x0 : aI D x0 x0n x0c H) (had8 : aI D ad8 n9 f10 H) (ls : Array Slot) (hl : lv_has ls 10 [(0, .ref x0), (3, .int v2), (4, .int (nI x0n)), (5, .ref ad8), (6, .int v11)]), W p l e R_J16_shiftLeft_2 s m A below meth c H locs 1 12 Q (F0 m 94 ls []) := by
      intro n9 f10 v11 h ad8 ln9 hB_had8 gad8 ne_h_x0_had8 H locs hS hF h_x0 had8 ls hl
      subst eK12
      refine lv_iload hx hb dJ16_shiftLeft_2_94 (lv_at hl 2 rfl) ?_
      refine lv_iconst (v := 1) hx hb dJ16_shiftLeft_2_96 (by decide) ?_
      obtain ⟨v13, ev13, h⟩ := lti_step h
      refine r_isub hx hb ev13 dJ16_shiftLeft_2_97 ?_
      refine lv_istore (lv' := [(9, .int v13), (0, .ref x0), (3, .int v2), (4, .int (nI x0n)), (5, .ref ad8), (6, .int v11)]) hx hb dJ16_shiftLeft_2_98 hl (by decide) rfl (fun ls hl => ?_)
      refine lv_iconst (v := 0) hx hb dJ16_shiftLeft_2_100 (by decide) ?_
      refine lv_iload hx hb dJ16_shiftLeft_2_101 (lv_at hl 0 rfl) ?_
      refine lv_iconst (v := 1) hx hb dJ16_shiftLeft_2_103 (by decide) ?_
      obtain ⟨v14, ev14, h⟩ := lti_step h
      refine r_iadd hx hb ev14 dJ16_shiftLeft_2_104 ?_
      refine lv_aload_n hx hb dJ16_shiftLeft_2_105 rfl (lv_at hl 1 rfl) ?_
      refine r_alen hx hb hS h_x0 dJ16_shiftLeft_2_106 ?_
      obtain ⟨o15, eo15, h⟩ := bind_step h
      refine r_cp (r_runS (rest := []) (As := [.int 0, .int v14, .int (nI x0n)]) hC 3 (m_J17_checkFromToIndex   0 v14 (nI x0n) o15 eo15) q464 q465 q59 q466 hd_J17_checkFromToIndex rfl ⟨Nat.le_of_ble_eq_true rfl, Nat.le_of_ble_eq_true rfl⟩ hS trivial hl.1 rfl (Nat.le_of_ble_eq_true rfl) dJ16_shiftLeft_2_107 ⟨Nat.le_of_ble_eq_true rfl, Nat.le_of_ble_eq_true rfl⟩) ?_
      refine lv_pop hx hb dJ16_shiftLeft_2_110 rfl ?_
      refine lv_iload hx hb dJ16_shiftLeft_2_111 (lv_at hl 5 rfl) ?_
      refine lv_iload hx hb dJ16_shiftLeft_2_113 (lv_at hl 0 rfl) ?_
      refine lv_iload hx hb dJ16_shiftLeft_2_115 (lv_at hl 5 rfl) ?_
      obtain ⟨v16, ev16, h⟩ := lti_step h
      refine r_iadd hx hb ev16 dJ16_shiftLeft_2_117 ?_
      refine lv_iconst (v := 1) hx hb dJ16_shiftLeft_2_118 (by decide) ?_
      obtain ⟨v17, ev17, h⟩ := lti_step h
      refine r_iadd hx hb ev17 dJ16_shiftLeft_2_119 ?_
      refine lv_aload hx hb dJ16_shiftLeft_2_120 (lv_at hl 4 rfl) ?_
      refine r_alen hx hb hS had8 dJ16_shiftLeft_2_122 ?_
      obtain ⟨o18, eo18, h⟩ := bind_step h
      refine r_cp (r_runS (rest := []) (As := [.int v11, .int v17, .int (nI n9)]) hC 3 (m_J17_checkFromToIndex   v11 v17 (nI n9) o18 eo18) q464 q465 q59 q466 hd_J17_checkFromToIndex rfl ⟨Nat.le_of_ble_eq_true rfl, Nat.le_of_ble_eq_true rfl⟩ hS trivial hl.1 rfl (Nat.le_of_ble_eq_true rfl) dJ16_shiftLeft_2_123 ⟨Nat.le_of_ble_eq_true rfl, Nat.le_of_ble_eq_true rfl⟩) ?_
      refine lv_pop hx hb dJ16_shiftLeft_2_126 rfl ?_
      refine lv_aload hx hb dJ16_shiftLeft_2_127 (lv_at hl 4 rfl) ?_
      refine lv_aload_n hx hb dJ16_shiftLeft_2_129 rfl (lv_at hl 1 rfl) ?_
      refine lv_iload hx hb dJ16_shiftLeft_2_130 (lv_at hl 5 rfl) ?_
      refine lv_iload_n hx hb dJ16_shiftLeft_2_132 rfl (lv_at hl 2 rfl) ?_
      refine lv_iload hx hb dJ16_shiftLeft_2_133 (lv_at hl 0 rfl) ?_
      obtain ⟨o19, eo19, h⟩ := bind_step h
      refine r_cv (r_runS (rest := []) (As := [.ref ad8, .ref x0, .int v11, .int v2, .int v13]) hC 5 (m_J16_shiftLeftImplWorker ad8 x0  n9 f10 x0n x0c v11 v2 v13 o19 eo19) q470 q471 q57 q472 hd_J16_shiftLeftImplWorker rfl ⟨Nat.le_of_ble_eq_true rfl, Nat.le_of_ble_eq_true rfl⟩ hS ⟨had8, ln9, hB_had8, h_x0, l_x0, (Ne.symm ne_h_x0_had8)⟩ hl.1 rfl (Nat.le_of_ble_eq_true rfl) dJ16_shiftLeft_2_135 ⟨Nat.le_of_ble_eq_true rfl, Nat.le_of_ble_eq_true rfl⟩) hS (fun H locs hp hS hz => ?_)
      obtain ⟨had8, hO⟩ := hp
      have h_x0 := h_x0.off hO ne_h_x0_had8
      have hF := hF.fresh hO (fun a ha z => absurd (z ▸ ha) (Nat.not_lt.mpr gad8))
      refine lv_aload hx hb dJ16_shiftLeft_2_138 (lv_at hl 4 rfl) ?_
      refine lv_iload hx hb dJ16_shiftLeft_2_140 (lv_at hl 0 rfl) ?_
      refine lv_iload hx hb dJ16_shiftLeft_2_142 (lv_at hl 5 rfl) ?_
      obtain ⟨v20, ev20, h⟩ := lti_step h
      refine r_iadd hx hb ev20 dJ16_shiftLeft_2_144 ?_
      refine lv_aload_n hx hb dJ16_shiftLeft_2_145 rfl (lv_at hl 1 rfl) ?_
      refine lv_iload hx hb dJ16_shiftLeft_2_146 (lv_at hl 0 rfl) ?_
      obtain ⟨i21, xi21, h⟩ := gd_step (nl0 l_x0) h
      refine r_iald hx hb hS h_x0 i21 xi21 dJ16_shiftLeft_2_148 ?_
      obtain ⟨v22, ev22, h⟩ := lti_step h
      refine r_nmI ev22 ?_
      refine lv_iload_n hx hb dJ16_shiftLeft_2_149 rfl (lv_at hl 2 rfl) ?_
      obtain ⟨v23, ev23, h⟩ := lti_step h
      refine r_ishl hx hb ev23 dJ16_shiftLeft_2_150 ?_
      obtain ⟨i24, xi24, h⟩ := gd_step (nl0 ln9) h
      obtain ⟨f25, ef25, h⟩ := lt_step h
      refine r_iast hx hb hS had8 hB_had8 i24 xi24 dJ16_shiftLeft_2_151 (fun H locs hS hO had8 => ?_)
      have had8 : aI D ad8 n9 f25 H := by rw [ef25]; exact had8
      have h_x0 := h_x0.off hO ne_h_x0_had8
      have hF := hF.fresh hO (fun a ha z => absurd (z ▸ ha) (Nat.not_lt.mpr gad8))
      refine lv_aload hx hb dJ16_shiftLeft_2_152 (lv_at hl 4 rfl) ?_
      obtain rfl := Option.some.inj h
      rw [eQ]
      exact r_aret hx hb hr (Or.inr ⟨_, rfl⟩) hlk hS (Nat.le_of_ble_eq_true rfl) (Nat.le_of_ble_eq_true rfl) dJ16_shiftLeft_2_154 ⟨_, rfl, had8, ln9, gad8, hF⟩
    clear eK12
    refine lv_if_eq (tgt := 86) hx hb dJ16_shiftLeft_2_60 (by decide) (fun c26 => ?_) (fun c26 => ?_)
    · have h := it_pos h c26
      refine lv_iload hx hb dJ16_shiftLeft_2_86 (lv_at hl 4 rfl) ?_
      refine lv_iload_n hx hb dJ16_shiftLeft_2_88 rfl (lv_at hl 6 rfl) ?_
      obtain ⟨v27, ev27, h⟩ := lti_step h
      refine r_iadd hx hb ev27 dJ16_shiftLeft_2_89 ?_
      obtain ⟨n29, xn29, h⟩ := gl_step (by decide) h
      refine r_newaB hx hb hts hS (ty := .int) rfl q453 12 n29 xn29 (by decide) (by decide) (Nat.le_of_ble_eq_true rfl) (Nat.le_of_ble_eq_true rfl) dJ16_shiftLeft_2_90 (fun ad28 H eq_ad28 hS hE had28 z_ad28 hB_had28 => ?_)
      have had28 : aI D ad28 n29 (fun _ => 0) H := had28
      have gad28 : s.heap.size ≤ ad28 := by have := hF.1; omega
      have ne_h_x0_had28 : x0 ≠ ad28 := by have := h_x0.lt; omega
      have h_x0 := h_x0.ext hE
      have hF := hF.trans (hE.mono (fun _ _ z => z.elim))
      refine lv_astore (lv' := [(5, .ref ad28), (8, .int v7), (7, .int v4), (6, .int 0), (4, .int (nI x0n)), (3, .int v2), (2, .int v1), (0, .ref x0), (1, .int x1)]) hx hb dJ16_shiftLeft_2_92 hl (by decide) rfl (fun ls hl => ?_)
      exact HK12 n29 (fun _ => 0) 0 h ad28 (le_of_gl xn29 (by decide)) hB_had28 gad28 ne_h_x0_had28 H locs hS hF h_x0 had28 ls (lv_sub hl [7, 5, 4, 0, 3] rfl)
    · have h := it_neg h c26
      refine lv_iload hx hb dJ16_shiftLeft_2_63 (lv_at hl 4 rfl) ?_
      refine lv_iload_n hx hb dJ16_shiftLeft_2_65 rfl (lv_at hl 6 rfl) ?_
      obtain ⟨v30, ev30, h⟩ := lti_step h
      refine r_iadd hx hb ev30 dJ16_shiftLeft_2_66 ?_
      refine lv_iconst (v := 1) hx hb dJ16_shiftLeft_2_67 (by decide) ?_
      obtain ⟨v31, ev31, h⟩ := lti_step h
      refine r_iadd hx hb ev31 dJ16_shiftLeft_2_68 ?_
      obtain ⟨n33, xn33, h⟩ := gl_step (by decide) h
      refine r_newaB hx hb hts hS (ty := .int) rfl q453 12 n33 xn33 (by decide) (by decide) (Nat.le_of_ble_eq_true rfl) (Nat.le_of_ble_eq_true rfl) dJ16_shiftLeft_2_69 (fun ad32 H eq_ad32 hS hE had32 z_ad32 hB_had32 => ?_)
      have had32 : aI D ad32 n33 (fun _ => 0) H := had32
      have gad32 : s.heap.size ≤ ad32 := by have := hF.1; omega
      have ne_h_x0_had32 : x0 ≠ ad32 := by have := h_x0.lt; omega
      have h_x0 := h_x0.ext hE
      have hF := hF.trans (hE.mono (fun _ _ z => z.elim))
      refine lv_astore (lv' := [(5, .ref ad32), (8, .int v7), (7, .int v4), (6, .int 0), (4, .int (nI x0n)), (3, .int v2), (2, .int v1), (0, .ref x0), (1, .int x1)]) hx hb dJ16_shiftLeft_2_71 hl (by decide) rfl (fun ls hl => ?_)
      refine lv_aload hx hb dJ16_shiftLeft_2_73 (lv_at hl 0 rfl) ?_
      refine lv_iload hx hb dJ16_shiftLeft_2_75 (lv_at hl 3 rfl) ?_
      obtain ⟨v34, ev34, h⟩ := lti_step h
      refine lv_iinc (v := v34) (lv' := [(6, .int v34), (5, .ref ad32), (8, .int v7), (7, .int v4), (4, .int (nI x0n)), (3, .int v2), (2, .int v1), (0, .ref x0), (1, .int x1)]) hx hb dJ16_shiftLeft_2_77 hl (k := 3) rfl (by rw [ev34]; rfl) (by decide) rfl (fun ls hl => ?_)
      refine lv_iload hx hb dJ16_shiftLeft_2_80 (lv_at hl 2 rfl) ?_
      obtain ⟨i35, xi35, h⟩ := gd_step (nl0 (le_of_gl xn33 (by decide))) h
      obtain ⟨f36, ef36, h⟩ := lt_step h
      refine r_iast hx hb hS had32 hB_had32 i35 xi35 dJ16_shiftLeft_2_82 (fun H locs hS hO had32 => ?_)
      have had32 : aI D ad32 n33 f36 H := by rw [ef36]; exact had32
      have h_x0 := h_x0.off hO ne_h_x0_had32
      have hF := hF.fresh hO (fun a ha z => absurd (z ▸ ha) (Nat.not_lt.mpr gad32))
      refine lv_goto (tgt := 94) hx hb dJ16_shiftLeft_2_83 (by decide) ?_
      exact HK12 n33 f36 v34 h ad32 (le_of_gl xn33 (by decide)) hB_had32 gad32 ne_h_x0_had32 H locs hS hF h_x0 had32 ls (lv_sub hl [7, 5, 4, 1, 0] rfl)
  · have h := it_pos h c3
    refine lv_iload hx hb dJ16_shiftLeft_2_20 (lv_at hl 1 rfl) ?_
    refine lv_iload_n hx hb dJ16_shiftLeft_2_22 rfl (lv_at hl 3 rfl) ?_
    obtain ⟨v37, ev37, h⟩ := lti_step h
    refine r_iadd hx hb ev37 dJ16_shiftLeft_2_23 ?_
    obtain ⟨n39, xn39, h⟩ := gl_step (by decide) h
    refine r_newaB hx hb hts hS (ty := .int) rfl q453 12 n39 xn39 (by decide) (by decide) (Nat.le_of_ble_eq_true rfl) (Nat.le_of_ble_eq_true rfl) dJ16_shiftLeft_2_24 (fun ad38 H eq_ad38 hS hE had38 z_ad38 hB_had38 => ?_)
    have had38 : aI D ad38 n39 (fun _ => 0) H := had38
    have gad38 : s.heap.size ≤ ad38 := by have := hF.1; omega
    have ne_h_x0_had38 : x0 ≠ ad38 := by have := h_x0.lt; omega
    have h_x0 := h_x0.ext hE
    have hF := hF.trans (hE.mono (fun _ _ z => z.elim))
    refine lv_astore (lv' := [(5, .ref ad38), (4, .int (nI x0n)), (3, .int v2), (2, .int v1), (0, .ref x0), (1, .int x1)]) hx hb dJ16_shiftLeft_2_26 hl (by decide) rfl (fun ls hl => ?_)
    refine lv_aload_n hx hb dJ16_shiftLeft_2_28 rfl (lv_at hl 4 rfl) ?_
    refine lv_iconst (v := 0) hx hb dJ16_shiftLeft_2_29 (by decide) ?_
    refine lv_aload hx hb dJ16_shiftLeft_2_30 (lv_at hl 0 rfl) ?_
    refine lv_iconst (v := 0) hx hb dJ16_shiftLeft_2_32 (by decide) ?_
    refine lv_iload hx hb dJ16_shiftLeft_2_33 (lv_at hl 1 rfl) ?_
    obtain ⟨i40, xi40, h⟩ := gd_step (nl1 l_x0) h
    obtain ⟨i41, xi41, h⟩ := gd_step (nl1 (le_of_gl xn39 (by decide))) h
    obtain ⟨i42, xi42, h⟩ := gd_step (nl1 l_x0) h
    obtain ⟨b43, h⟩ := ask_step h
    rw [Bool.and_eq_true] at b43
    obtain ⟨f44, ef44, h⟩ := lt_step h
    refine r_copyI hC hS h_x0 had38 hB_had38 xi40 xi41 xi42 (Nat.le_of_ble_eq_true b43.1) (Nat.le_of_ble_eq_true b43.2) q461 q463 q462 q58 hl.1 ⟨Nat.le_of_ble_eq_true rfl, Nat.le_of_ble_eq_true rfl⟩ dJ16_shiftLeft_2_35 (fun H locs hS hO had38 => ?_)
    have had38 : aI D ad38 n39 f44 H := by rw [ef44]; exact had38
    have h_x0 := h_x0.off hO ne_h_x0_had38
    have hF := hF.fresh hO (fun a ha z => absurd (z ▸ ha) (Nat.not_lt.mpr gad38))
    refine lv_goto (tgt := 152) hx hb dJ16_shiftLeft_2_38 (by decide) ?_
    refine lv_aload hx hb dJ16_shiftLeft_2_152 (lv_at hl 0 rfl) ?_
    obtain rfl := Option.some.inj h
    rw [eQ]
    exact r_aret hx hb hr (Or.inr ⟨_, rfl⟩) hlk hS (Nat.le_of_ble_eq_true rfl) (Nat.le_of_ble_eq_true rfl) dJ16_shiftLeft_2_154 ⟨_, rfl, had38, (le_of_gl xn39 (by decide)), gad38, hF⟩

abbrev R_J16_shiftLeft : Room := { frames := 3, cells := 2, slots := 18, locals := 74 }
noncomputable def f_J16_shiftLeft (x0f0 : Int32) (x0r1n : Nat) (x0r1c : Nat → Int32) (x1 : Int32) : Option (Int32 × Nat × (Nat → Int32)) :=
  (if x0f0 = 0 then
    some (0, 0, (fun _ => 0))
  else
    (if x1 ≤ 0 then
      (if x1 = 0 then
        some (x0f0, x0r1n, x0r1c)
      else
        none
      )
    else
      Option.bind (f_J16_shiftLeft_2 x0r1n x0r1c x1) fun o5 =>
      Option.bind (f_J16_init_2 o5.1 o5.2 x0f0) fun o7 =>
      some (o7, o5.1, o5.2)
    )
  )
theorem hd_J16_shiftLeft : Hd yJ16_shiftLeft 1 := by unfold Hd; decide +kernel
set_option maxHeartbeats 4000000 in
set_option maxRecDepth 100000 in
theorem m_J16_shiftLeft {l : Launch} {D : DD} (x0 : Nat) (x0r1 : Nat) (x0e2 : Int32) (x0e3 : Int32) (x0e4 : Int32) (x0e5 : Int32) (x0f0 : Int32) (x0r1n : Nat) (x0r1c : Nat → Int32) (x1 : Int32) (r : Int32 × Nat × (Nat → Int32)) (h : f_J16_shiftLeft x0f0 x0r1n x0r1c x1 = some r) : MT l D yJ16_shiftLeft cJ16_shiftLeft 2 (some (.object "java/math/BigInteger")) 3 74 2 18 [.ref x0, .int x1] (fun H => OA D 2 x0 [.int x0f0, .ref x0r1, .int x0e2, .int x0e3, .int x0e4, .int x0e5] H ∧ aI D x0r1 x0r1n x0r1c H ∧ x0r1n ≤ 1000000) (pR (fun H b H' => ∃ b_1 : Nat, ∃ b_2 b_3 b_4 b_5 : Int32, OA D 2 b [.int r.1, .ref b_1, .int b_2, .int b_3, .int b_4, .int b_5] H' ∧ aI D b_1 r.2.1 r.2.2 H' ∧ r.2.1 ≤ 1000000 ∧ Off (fun _ => False) H H')) := by
  refine MT.start (by decide +kernel) (Nat.le_of_ble_eq_true rfl) ?_
  intro p e s m below meth c ls hC hS hp hl
  obtain ⟨h_x0, h_x0r1, l_x0r1⟩ := hp
  obtain ⟨hx, hb, hr, hlk, hml, hown, hts, hnm⟩ := id hC
  have hl : lv_has ls 2 [(0, .ref x0), (1, .int x1)] := hl
  unfold f_J16_shiftLeft at h
  have hS0 := hS
  obtain ⟨A, eA⟩ : ∃ A : Array Value, A = [.ref x0, .int x1].toArray := ⟨_, rfl⟩
  rw [← eA] at hC hts ⊢
  obtain ⟨Q, eQ⟩ : ∃ Q : State → Prop, Q = MQ below (TQ D (pR (fun H b H' => ∃ b_1 : Nat, ∃ b_2 b_3 b_4 b_5 : Int32, OA D 2 b [.int r.1, .ref b_1, .int b_2, .int b_3, .int b_4, .int b_5] H' ∧ aI D b_1 r.2.1 r.2.2 H' ∧ r.2.1 ≤ 1000000 ∧ Off (fun _ => False) H H'))) A s 2 18 (fun q => dB D ≤ q) := ⟨_, rfl⟩
  have hF : Off (fun _ => False) s.heap s.heap := Off.rf
  show W p l e R_J16_shiftLeft s m A below meth c s.heap [] 0 0 _ _
  rw [← eQ]
  obtain ⟨H, eH⟩ : ∃ H : Heap, H = s.heap := ⟨_, rfl⟩
  obtain ⟨locs, eLc⟩ : ∃ L : List Loc, L = [] := ⟨_, rfl⟩
  have lt_h_x0 := h_x0.lt
  have lt_h_x0r1 := h_x0r1.lt
  rw [← eH, ← eLc]
  have hF : Off (fun _ => False) s.heap H := by rw [eH]; exact hF
  rw [← eH] at h_x0
  rw [← eH] at h_x0r1
  have hS : St D s H locs := by rw [eH, eLc]; exact hS
  refine lv_aload_n hx hb dJ16_shiftLeft_0 rfl (lv_at hl 0 rfl) ?_
  refine r_get hx hb hts hown hS h_x0 rfl in_J16 0 (by decide) q435 rfl (v := .int x0f0) rfl dJ16_shiftLeft_1 ?_
  refine lv_if_ne (tgt := 11) hx hb dJ16_shiftLeft_4 (by decide) (fun c1 => ?_) (fun c1 => ?_)
  · have h := it_neg h c1
    refine lv_iload_n hx hb dJ16_shiftLeft_11 rfl (lv_at hl 1 rfl) ?_
    refine lv_if_le (tgt := 35) hx hb dJ16_shiftLeft_12 (by decide) (fun c2 => ?_) (fun c2 => ?_)
    · have h := it_pos h c2
      refine lv_iload_n hx hb dJ16_shiftLeft_35 rfl (lv_at hl 1 rfl) ?_
      refine lv_if_ne (tgt := 41) hx hb dJ16_shiftLeft_36 (by decide) (fun c3 => ?_) (fun c3 => ?_)
      · have h := it_neg h c3
        cases h
      · have h := it_pos h c3
        refine lv_aload_n hx hb dJ16_shiftLeft_39 rfl (lv_at hl 0 rfl) ?_
        obtain rfl := Option.some.inj h
        rw [eQ]
        exact r_aret hx hb hr (Or.inl ⟨_, rfl⟩) hlk hS (Nat.le_of_ble_eq_true rfl) (Nat.le_of_ble_eq_true rfl) dJ16_shiftLeft_40 ⟨_, rfl, x0r1, x0e2, x0e3, x0e4, x0e5, h_x0, h_x0r1, l_x0r1, hF⟩
    · have h := it_neg h c2
      refine r_new (k := 2) hx hb hts hown hS rfl in_J16 tyJ16 tyJ16_ok q426 q427 q57 (fs := [.int 0, .null, .int 0, .int 0, .int 0, .int 0]) rfl (by decide) (Nat.le_of_ble_eq_true rfl) (Nat.le_of_ble_eq_true rfl) dJ16_shiftLeft_15 (fun ad4 H eq_ad4 hS hE had4 z_ad4 hB_had4 => ?_)
      have gad4 : s.heap.size ≤ ad4 := by have := hF.1; omega
      have ne_h_x0_had4 : x0 ≠ ad4 := by have := h_x0.lt; omega
      have h_x0 := h_x0.ext hE
      have ne_h_x0r1_had4 : x0r1 ≠ ad4 := by have := h_x0r1.lt; omega
      have h_x0r1 := h_x0r1.ext hE
      have hF := hF.trans (hE.mono (fun _ _ z => z.elim))
      refine lv_dup hx hb dJ16_shiftLeft_18 rfl ?_
      refine lv_aload_n hx hb dJ16_shiftLeft_19 rfl (lv_at hl 0 rfl) ?_
      refine r_get hx hb hts hown hS h_x0 rfl in_J16 1 (by decide) q436 rfl (v := .ref x0r1) rfl dJ16_shiftLeft_20 ?_
      refine lv_iload_n hx hb dJ16_shiftLeft_23 rfl (lv_at hl 1 rfl) ?_
      obtain ⟨o5, eo5, h⟩ := bind_step h
      refine r_cr (r_runS (rest := [.ref ad4, .ref ad4]) (As := [.ref x0r1, .int x1]) hC 2 (m_J16_shiftLeft_2 x0r1  x0r1n x0r1c x1 o5 eo5) q458 q459 q57 q460 hd_J16_shiftLeft_2 rfl ⟨Nat.le_of_ble_eq_true rfl, Nat.le_of_ble_eq_true rfl⟩ hS ⟨h_x0r1, l_x0r1⟩ hl.1 rfl (Nat.le_of_ble_eq_true rfl) dJ16_shiftLeft_24 ⟨Nat.le_of_ble_eq_true rfl, Nat.le_of_ble_eq_true rfl⟩) hS (fun ad6 H locs hp hS hz => ?_)
      obtain ⟨had6, lo5_1, frad6, hO⟩ := hp
      have ne_h_x0_had6 : x0 ≠ ad6 := Nat.ne_of_lt (Nat.lt_of_lt_of_le h_x0.lt frad6)
      have ne_h_x0r1_had6 : x0r1 ≠ ad6 := Nat.ne_of_lt (Nat.lt_of_lt_of_le h_x0r1.lt frad6)
      have ne_had4_had6 : ad4 ≠ ad6 := Nat.ne_of_lt (Nat.lt_of_lt_of_le had4.lt frad6)
      have gad6 : s.heap.size ≤ ad6 := Nat.le_trans hF.1 frad6
      have hB_had6 : dB D ≤ ad6 := by have := hS0.1.2.2.1; omega
      have h_x0 := h_x0.ext hO
      have h_x0r1 := h_x0r1.ext hO
      have had4 := had4.ext hO
      have hF := hF.trans (hO.mono (fun _ _ z => z.elim))
      refine lv_aload_n hx hb dJ16_shiftLeft_27 rfl (lv_at hl 0 rfl) ?_
      refine r_get hx hb hts hown hS h_x0 rfl in_J16 0 (by decide) q435 rfl (v := .int x0f0) rfl dJ16_shiftLeft_28 ?_
      obtain ⟨o7, eo7, h⟩ := bind_step h
      refine r_cv (r_runI (rest := [.ref ad4]) (As := [.ref ad6, .int x0f0]) hC 2 (m_J16_init_2 ad4 ad6  o5.1 o5.2 x0f0 o7 eo7) q473 q474 q57 q475 rfl hd_J16_init_2 rfl ⟨Nat.le_of_ble_eq_true rfl, Nat.le_of_ble_eq_true rfl⟩ hS ⟨had4, hB_had4, had6, lo5_1, ne_had4_had6⟩ hl.1 rfl (Nat.le_of_ble_eq_true rfl) dJ16_shiftLeft_31 ⟨Nat.le_of_ble_eq_true rfl, Nat.le_of_ble_eq_true rfl⟩) hS (fun H locs hp hS hz => ?_)
      obtain ⟨had4, hO⟩ := hp
      have h_x0 := h_x0.off hO ne_h_x0_had4
      have h_x0r1 := h_x0r1.off hO ne_h_x0r1_had4
      have had6 := had6.off hO (Ne.symm ne_had4_had6)
      have hF := hF.fresh hO (fun a ha z => absurd (z ▸ ha) (Nat.not_lt.mpr gad4))
      obtain rfl := Option.some.inj h
      rw [eQ]
      exact r_aret hx hb hr (Or.inl ⟨_, rfl⟩) hlk hS (Nat.le_of_ble_eq_true rfl) (Nat.le_of_ble_eq_true rfl) dJ16_shiftLeft_34 ⟨_, rfl, ad6, 0, 0, 0, 0, had4.OA, had6, lo5_1, hF⟩
  · have h := it_pos h c1
    refine r_gets hx hb hts hown hS 14 rfl q418 dJ16_shiftLeft_7 ?_
    obtain ⟨ay8, by8, cy8, dy8, zy8⟩ := hS0.1.1.2.2.2.2.1.2.1
    obtain ⟨fy8, wy8⟩ := hS0.1.1.2.2.2.2.1.2.2.1
    have wy8 : aI D (dN D 15) 0 (fun _ => 0) D.1.heap := RA.congr wy8 (fun j hj => absurd hj (Nat.not_lt_zero j))
    obtain rfl := Option.some.inj h
    rw [eQ]
    exact r_aret hx hb hr (Or.inl ⟨_, rfl⟩) hlk hS (Nat.le_of_ble_eq_true rfl) (Nat.le_of_ble_eq_true rfl) dJ16_shiftLeft_10 ⟨_, rfl, (dN D 15), ay8, by8, cy8, dy8, (hS.1.OA zy8), (hS.1.RA wy8), (Nat.le_of_ble_eq_true rfl), hF⟩

abbrev R_J16_valueOf : Room := { frames := 3, cells := 2, slots := 8, locals := 63 }
noncomputable def f_J16_valueOf (x0 : Int64) : Option (Int32 × Nat × (Nat → Int32)) :=
  lti (lg_cmp x0 0) fun v1 =>
  (if v1 = 0 then
    some (0, 0, (fun _ => 0))
  else
    lti (lg_cmp x0 0) fun v3 =>
    lt (fun (_u : Unit) =>
    lti (lg_cmp x0 0) fun v5 =>
    (if 0 ≤ v5 then
      Option.bind (f_J16_init x0) fun o8 =>
      some (o8.1, o8.2.1, o8.2.2)
    else
      lti (lg_cmp x0 (-16)) fun v10 =>
      (if v10 < 0 then
        Option.bind (f_J16_init x0) fun o13 =>
        some (o13.1, o13.2.1, o13.2.2)
      else
        none
      )
    )
    ) fun K4 =>
    (if v3 ≤ 0 then
      K4 ()
    else
      lti (lg_cmp x0 16) fun v16 =>
      (if 0 < v16 then
        K4 ()
      else
        none
      )
    )
  )
theorem hd_J16_valueOf : Hd yJ16_valueOf 1 := by unfold Hd; decide +kernel
set_option maxHeartbeats 4000000 in
set_option maxRecDepth 100000 in
theorem m_J16_valueOf {l : Launch} {D : DD}   (x0 : Int64) (r : Int32 × Nat × (Nat → Int32)) (h : f_J16_valueOf x0 = some r) : MT l D yJ16_valueOf cJ16_valueOf 2 (some (.object "java/math/BigInteger")) 3 63 2 8 [.long x0] NoPre (pR (fun H b H' => ∃ b_1 : Nat, ∃ b_2 b_3 b_4 b_5 : Int32, OA D 2 b [.int r.1, .ref b_1, .int b_2, .int b_3, .int b_4, .int b_5] H' ∧ aI D b_1 r.2.1 r.2.2 H' ∧ r.2.1 ≤ 1000000 ∧ Off (fun _ => False) H H')) := by
  refine MT.start (by decide +kernel) (Nat.le_of_ble_eq_true rfl) ?_
  intro p e s m below meth c ls hC hS hp hl
  obtain ⟨hx, hb, hr, hlk, hml, hown, hts, hnm⟩ := id hC
  have hl : lv_has ls 2 [(0, .long x0)] := hl
  unfold f_J16_valueOf at h
  have hS0 := hS
  obtain ⟨A, eA⟩ : ∃ A : Array Value, A = [.long x0].toArray := ⟨_, rfl⟩
  rw [← eA] at hC hts ⊢
  obtain ⟨Q, eQ⟩ : ∃ Q : State → Prop, Q = MQ below (TQ D (pR (fun H b H' => ∃ b_1 : Nat, ∃ b_2 b_3 b_4 b_5 : Int32, OA D 2 b [.int r.1, .ref b_1, .int b_2, .int b_3, .int b_4, .int b_5] H' ∧ aI D b_1 r.2.1 r.2.2 H' ∧ r.2.1 ≤ 1000000 ∧ Off (fun _ => False) H H'))) A s 2 8 (fun q => dB D ≤ q) := ⟨_, rfl⟩
  have hF : Off (fun _ => False) s.heap s.heap := Off.rf
  show W p l e R_J16_valueOf s m A below meth c s.heap [] 0 0 _ _
  rw [← eQ]
  obtain ⟨H, eH⟩ : ∃ H : Heap, H = s.heap := ⟨_, rfl⟩
  obtain ⟨locs, eLc⟩ : ∃ L : List Loc, L = [] := ⟨_, rfl⟩
  rw [← eH, ← eLc]
  have hF : Off (fun _ => False) s.heap H := by rw [eH]; exact hF
  have hS : St D s H locs := by rw [eH, eLc]; exact hS
  refine lv_lload_n hx hb dJ16_valueOf_0 rfl (lv_at hl 0 rfl) ?_
  refine lv_lconst (v := 0) hx hb dJ16_valueOf_1 rfl ?_
  obtain ⟨v1, ev1, h⟩ := lti_step h
  refine r_lcmp hx hb ev1 dJ16_valueOf_2 ?_
  refine lv_if_ne (tgt := 10) hx hb dJ16_valueOf_3 (by decide) (fun c2 => ?_) (fun c2 => ?_)
  · have h := it_neg h c2
    refine lv_lload_n hx hb dJ16_valueOf_10 rfl (lv_at hl 0 rfl) ?_
    refine lv_lconst (v := 0) hx hb dJ16_valueOf_11 rfl ?_
    obtain ⟨v3, ev3, h⟩ := lti_step h
    refine r_lcmp hx hb ev3 dJ16_valueOf_12 ?_
    obtain ⟨K4, eK4, h⟩ := lt_step h
    have HK4 : ∀  (h : K4 () = some r) (H : Heap) (locs : List Loc) (hS : St D s H locs) (hF : Off (fun _ => False) s.heap H) (ls : Array Slot) (hl : lv_has ls 2 [(0, .long x0)]), W p l e R_J16_valueOf s m A below meth c H locs 0 0 Q (F0 m 31 ls []) := by
      intro h H locs hS hF ls hl
      subst eK4
      refine lv_lload_n hx hb dJ16_valueOf_31 rfl (lv_at hl 0 rfl) ?_
      refine lv_lconst (v := 0) hx hb dJ16_valueOf_32 rfl ?_
      obtain ⟨v5, ev5, h⟩ := lti_step h
      refine r_lcmp hx hb ev5 dJ16_valueOf_33 ?_
      refine lv_if_ge (tgt := 53) hx hb dJ16_valueOf_34 (by decide) (fun c6 => ?_) (fun c6 => ?_)
      · have h := it_pos h c6
        refine r_new (k := 2) hx hb hts hown hS rfl in_J16 tyJ16 tyJ16_ok q426 q427 q57 (fs := [.int 0, .null, .int 0, .int 0, .int 0, .int 0]) rfl (by decide) (Nat.le_of_ble_eq_true rfl) (Nat.le_of_ble_eq_true rfl) dJ16_valueOf_53 (fun ad7 H eq_ad7 hS hE had7 z_ad7 hB_had7 => ?_)
        have gad7 : s.heap.size ≤ ad7 := by have := hF.1; omega
        have hF := hF.trans (hE.mono (fun _ _ z => z.elim))
        refine lv_dup hx hb dJ16_valueOf_56 rfl ?_
        refine lv_lload_n hx hb dJ16_valueOf_57 rfl (lv_at hl 0 rfl) ?_
        obtain ⟨o8, eo8, h⟩ := bind_step h
        refine r_cv (r_runI (rest := [.ref ad7]) (As := [.long x0]) hC 1 (m_J16_init ad7  x0 o8 eo8) q428 q429 q57 q430 rfl hd_J16_init rfl ⟨Nat.le_of_ble_eq_true rfl, Nat.le_of_ble_eq_true rfl⟩ hS ⟨had7, hB_had7⟩ hl.1 rfl (Nat.le_of_ble_eq_true rfl) dJ16_valueOf_58 ⟨Nat.le_of_ble_eq_true rfl, Nat.le_of_ble_eq_true rfl⟩) hS (fun H locs hp hS hz => ?_)
        obtain ⟨ad9, had7, had9, lo8_2_1, hO⟩ := hp
        have hF := hF.fresh hO (fun a ha z => absurd (z ▸ ha) (Nat.not_lt.mpr gad7))
        obtain rfl := Option.some.inj h
        rw [eQ]
        exact r_aret hx hb hr (Or.inl ⟨_, rfl⟩) hlk hS (Nat.le_of_ble_eq_true rfl) (Nat.le_of_ble_eq_true rfl) dJ16_valueOf_61 ⟨_, rfl, ad9, 0, 0, 0, 0, had7.OA, had9, lo8_2_1, hF⟩
      · have h := it_neg h c6
        refine lv_lload_n hx hb dJ16_valueOf_37 rfl (lv_at hl 0 rfl) ?_
        refine lv_ldc2 hx hb (v := (-16)) hown (hts _ q423) dJ16_valueOf_38 ?_
        obtain ⟨v10, ev10, h⟩ := lti_step h
        refine r_lcmp hx hb ev10 dJ16_valueOf_41 ?_
        refine lv_if_lt (tgt := 53) hx hb dJ16_valueOf_42 (by decide) (fun c11 => ?_) (fun c11 => ?_)
        · have h := it_pos h c11
          refine r_new (k := 2) hx hb hts hown hS rfl in_J16 tyJ16 tyJ16_ok q426 q427 q57 (fs := [.int 0, .null, .int 0, .int 0, .int 0, .int 0]) rfl (by decide) (Nat.le_of_ble_eq_true rfl) (Nat.le_of_ble_eq_true rfl) dJ16_valueOf_53 (fun ad12 H eq_ad12 hS hE had12 z_ad12 hB_had12 => ?_)
          have gad12 : s.heap.size ≤ ad12 := by have := hF.1; omega
          have hF := hF.trans (hE.mono (fun _ _ z => z.elim))
          refine lv_dup hx hb dJ16_valueOf_56 rfl ?_
          refine lv_lload_n hx hb dJ16_valueOf_57 rfl (lv_at hl 0 rfl) ?_
          obtain ⟨o13, eo13, h⟩ := bind_step h
          refine r_cv (r_runI (rest := [.ref ad12]) (As := [.long x0]) hC 1 (m_J16_init ad12  x0 o13 eo13) q428 q429 q57 q430 rfl hd_J16_init rfl ⟨Nat.le_of_ble_eq_true rfl, Nat.le_of_ble_eq_true rfl⟩ hS ⟨had12, hB_had12⟩ hl.1 rfl (Nat.le_of_ble_eq_true rfl) dJ16_valueOf_58 ⟨Nat.le_of_ble_eq_true rfl, Nat.le_of_ble_eq_true rfl⟩) hS (fun H locs hp hS hz => ?_)
          obtain ⟨ad14, had12, had14, lo13_2_1, hO⟩ := hp
          have hF := hF.fresh hO (fun a ha z => absurd (z ▸ ha) (Nat.not_lt.mpr gad12))
          obtain rfl := Option.some.inj h
          rw [eQ]
          exact r_aret hx hb hr (Or.inl ⟨_, rfl⟩) hlk hS (Nat.le_of_ble_eq_true rfl) (Nat.le_of_ble_eq_true rfl) dJ16_valueOf_61 ⟨_, rfl, ad14, 0, 0, 0, 0, had12.OA, had14, lo13_2_1, hF⟩
        · have h := it_neg h c11
          cases h
    clear eK4
    refine lv_if_le (tgt := 31) hx hb dJ16_valueOf_13 (by decide) (fun c15 => ?_) (fun c15 => ?_)
    · have h := it_pos h c15
      exact HK4  h H locs hS hF ls (lv_sub hl [0] rfl)
    · have h := it_neg h c15
      refine lv_lload_n hx hb dJ16_valueOf_16 rfl (lv_at hl 0 rfl) ?_
      refine lv_ldc2 hx hb (v := 16) hown (hts _ q420) dJ16_valueOf_17 ?_
      obtain ⟨v16, ev16, h⟩ := lti_step h
      refine r_lcmp hx hb ev16 dJ16_valueOf_20 ?_
      refine lv_if_gt (tgt := 31) hx hb dJ16_valueOf_21 (by decide) (fun c17 => ?_) (fun c17 => ?_)
      · have h := it_pos h c17
        exact HK4  h H locs hS hF ls (lv_sub hl [0] rfl)
      · have h := it_neg h c17
        cases h
  · have h := it_pos h c2
    refine r_gets hx hb hts hown hS 14 rfl q418 dJ16_valueOf_6 ?_
    obtain ⟨ay18, by18, cy18, dy18, zy18⟩ := hS0.1.1.2.2.2.2.1.2.1
    obtain ⟨fy18, wy18⟩ := hS0.1.1.2.2.2.2.1.2.2.1
    have wy18 : aI D (dN D 15) 0 (fun _ => 0) D.1.heap := RA.congr wy18 (fun j hj => absurd hj (Nat.not_lt_zero j))
    obtain rfl := Option.some.inj h
    rw [eQ]
    exact r_aret hx hb hr (Or.inl ⟨_, rfl⟩) hlk hS (Nat.le_of_ble_eq_true rfl) (Nat.le_of_ble_eq_true rfl) dJ16_valueOf_9 ⟨_, rfl, (dN D 15), ay18, by18, cy18, dy18, (hS.1.OA zy18), (hS.1.RA wy18), (Nat.le_of_ble_eq_true rfl), hF⟩

abbrev R_J16_trustedStripLeadingZeroInts : Room := { frames := 3, cells := 1, slots := 12, locals := 84 }
noncomputable def f_J16_trustedStripLeadingZeroInts (x0n : Nat) (x0c : Nat → Int32) : Option (Nat × (Nat → Int32)) :=
  lt (fun (v1 : Int32) =>
  (show Option (Sum (Int32) (Int32)) from (
  (if (nI x0n) ≤ v1 then
    some (.inr v1)
  else
    gd x0n v1 fun i12 =>
    lti (x0c i12) fun v13 =>
    (if v13 = 0 then
      lti (v1 + 1) fun v15 =>
      some (.inl v15)
    else
      some (.inr v1)
    )
  )
  ))
  ) fun F8 =>
  Option.bind (lp 41 (fun x => F8 x) 0) fun w9 =>
  (if w9 = 0 then
    some (x0n, x0c)
  else
    Option.bind (f_J19_copyOfRange_2 x0n x0c w9 (nI x0n)) fun o17 =>
    some (o17.1, o17.2)
  )
theorem hd_J16_trustedStripLeadingZeroInts : Hd yJ16_trustedStripLeadingZeroInts 1 := by unfold Hd; decide +kernel
set_option maxHeartbeats 4000000 in
set_option maxRecDepth 100000 in
theorem m_J16_trustedStripLeadingZeroInts {l : Launch} {D : DD} (x0 : Nat)  (x0n : Nat) (x0c : Nat → Int32) (r : Nat × (Nat → Int32)) (h : f_J16_trustedStripLeadingZeroInts x0n x0c = some r) : MT l D yJ16_trustedStripLeadingZeroInts cJ16_trustedStripLeadingZeroInts 3 (some (.array .int)) 3 84 1 12 [.ref x0] (fun H => aI D x0 x0n x0c H ∧ x0n ≤ 1000000) (pR (fun H b H' => aI D b r.1 r.2 H' ∧ r.1 ≤ 1000000 ∧ Off (fun _ => False) H H')) := by
  refine MT.start (by decide +kernel) (Nat.le_of_ble_eq_true rfl) ?_
  intro p e s m below meth c ls hC hS hp hl
  obtain ⟨h_x0, l_x0⟩ := hp
  obtain ⟨hx, hb, hr, hlk, hml, hown, hts, hnm⟩ := id hC
  have hl : lv_has ls 3 [(0, .ref x0)] := hl
  unfold f_J16_trustedStripLeadingZeroInts at h
  have hS0 := hS
  obtain ⟨A, eA⟩ : ∃ A : Array Value, A = [.ref x0].toArray := ⟨_, rfl⟩
  rw [← eA] at hC hts ⊢
  obtain ⟨Q, eQ⟩ : ∃ Q : State → Prop, Q = MQ below (TQ D (pR (fun H b H' => aI D b r.1 r.2 H' ∧ r.1 ≤ 1000000 ∧ Off (fun _ => False) H H'))) A s 1 12 (fun q => dB D ≤ q) := ⟨_, rfl⟩
  have hF : Off (fun _ => False) s.heap s.heap := Off.rf
  show W p l e R_J16_trustedStripLeadingZeroInts s m A below meth c s.heap [] 0 0 _ _
  rw [← eQ]
  obtain ⟨H, eH⟩ : ∃ H : Heap, H = s.heap := ⟨_, rfl⟩
  obtain ⟨locs, eLc⟩ : ∃ L : List Loc, L = [] := ⟨_, rfl⟩
  have lt_h_x0 := h_x0.lt
  rw [← eH, ← eLc]
  have hF : Off (fun _ => False) s.heap H := by rw [eH]; exact hF
  rw [← eH] at h_x0
  have hS : St D s H locs := by rw [eH, eLc]; exact hS
  refine lv_aload_n hx hb dJ16_trustedStripLeadingZeroInts_0 rfl (lv_at hl 0 rfl) ?_
  refine r_alen hx hb hS h_x0 dJ16_trustedStripLeadingZeroInts_1 ?_
  refine lv_istore_n (lv' := [(1, .int (nI x0n)), (0, .ref x0)]) hx hb dJ16_trustedStripLeadingZeroInts_2 rfl hl (by decide) rfl (fun ls hl => ?_)
  refine lv_iconst (v := 0) hx hb dJ16_trustedStripLeadingZeroInts_3 (by decide) ?_
  refine lv_istore_n (lv' := [(2, .int 0), (1, .int (nI x0n)), (0, .ref x0)]) hx hb dJ16_trustedStripLeadingZeroInts_4 rfl hl (by decide) rfl (fun ls hl => ?_)
  obtain ⟨F8, eF8, h⟩ := lt_step h
  obtain ⟨w9, ew9, h⟩ := bind_step h
  have HL : ∀ (n : Nat) (v1 : Int32) (w9 : Int32) (hk0 : lp n (fun x => F8 x) v1 = some w9)  (H : Heap) (locs : List Loc) (hS : St D s H locs) (hF : Off (fun _ => False) s.heap H) (h_x0 : aI D x0 x0n x0c H) (ls : Array Slot) (hl : lv_has ls 3 [(0, .ref x0), (1, .int (nI x0n)), (2, .int v1)]) (K22 : ∀ (H : Heap) (locs : List Loc) (hS : St D s H locs) (hF : Off (fun _ => False) s.heap H) (h_x0 : aI D x0 x0n x0c H) (ls : Array Slot) (hl : lv_has ls 3 [(0, .ref x0), (1, .int (nI x0n)), (2, .int w9)]), W p l e R_J16_trustedStripLeadingZeroInts s m A below meth c H locs 0 0 Q (F0 m 22 ls [])), W p l e R_J16_trustedStripLeadingZeroInts s m A below meth c H locs 0 0 Q (F0 m 5 ls []) := by
    intro n
    induction n with
    | zero => intro v1 w9 hk0  H locs hS hF h_x0 ls hl K22; exact lp_zero hk0
    | succ n ih =>
      intro v1 w9 hk0  H locs hS hF h_x0 ls hl K22
      obtain ⟨z10, hz, hk⟩ := lp_step hk0
      have h := (congrFun (eF8) v1).symm.trans hz
      refine lv_iload_n hx hb dJ16_trustedStripLeadingZeroInts_5 rfl (lv_at hl 2 rfl) ?_
      refine lv_iload_n hx hb dJ16_trustedStripLeadingZeroInts_6 rfl (lv_at hl 1 rfl) ?_
      refine lv_icmp_ge (tgt := 22) hx hb dJ16_trustedStripLeadingZeroInts_7 (by decide) (fun c11 => ?_) (fun c11 => ?_)
      · have h := it_pos h c11
        obtain rfl := Option.some.inj h
        obtain rfl := id hk
        exact K22 H locs hS hF h_x0 ls (lv_sub hl [0, 1, 2] rfl)
      · have h := it_neg h c11
        refine lv_aload_n hx hb dJ16_trustedStripLeadingZeroInts_10 rfl (lv_at hl 0 rfl) ?_
        refine lv_iload_n hx hb dJ16_trustedStripLeadingZeroInts_11 rfl (lv_at hl 2 rfl) ?_
        obtain ⟨i12, xi12, h⟩ := gd_step (nl0 l_x0) h
        refine r_iald hx hb hS h_x0 i12 xi12 dJ16_trustedStripLeadingZeroInts_12 ?_
        obtain ⟨v13, ev13, h⟩ := lti_step h
        refine r_nmI ev13 ?_
        refine lv_if_ne (tgt := 22) hx hb dJ16_trustedStripLeadingZeroInts_13 (by decide) (fun c14 => ?_) (fun c14 => ?_)
        · have h := it_neg h c14
          obtain rfl := Option.some.inj h
          obtain rfl := id hk
          exact K22 H locs hS hF h_x0 ls (lv_sub hl [0, 1, 2] rfl)
        · have h := it_pos h c14
          obtain ⟨v15, ev15, h⟩ := lti_step h
          refine lv_iinc (v := v15) (lv' := [(2, .int v15), (0, .ref x0), (1, .int (nI x0n))]) hx hb dJ16_trustedStripLeadingZeroInts_16 hl (k := 2) rfl (by rw [ev15]; rfl) (by decide) rfl (fun ls hl => ?_)
          refine lv_goto (tgt := 5) hx hb dJ16_trustedStripLeadingZeroInts_19 (by decide) ?_
          obtain rfl := Option.some.inj h
          exact ih v15 w9 hk  H locs hS hF h_x0 ls (lv_sub hl [1, 2, 0] rfl) K22
  clear eF8
  refine HL 41 0 w9 ew9  H locs hS hF h_x0 ls (lv_sub hl [2, 1, 0] rfl) (fun  H locs hS hF h_x0 ls hl => ?_)
  refine lv_iload_n hx hb dJ16_trustedStripLeadingZeroInts_22 rfl (lv_at hl 2 rfl) ?_
  refine lv_if_ne (tgt := 30) hx hb dJ16_trustedStripLeadingZeroInts_23 (by decide) (fun c16 => ?_) (fun c16 => ?_)
  · have h := it_neg h c16
    refine lv_aload_n hx hb dJ16_trustedStripLeadingZeroInts_30 rfl (lv_at hl 0 rfl) ?_
    refine lv_iload_n hx hb dJ16_trustedStripLeadingZeroInts_31 rfl (lv_at hl 2 rfl) ?_
    refine lv_iload_n hx hb dJ16_trustedStripLeadingZeroInts_32 rfl (lv_at hl 1 rfl) ?_
    obtain ⟨o17, eo17, h⟩ := bind_step h
    refine r_cr (r_runS (rest := []) (As := [.ref x0, .int w9, .int (nI x0n)]) hC 3 (m_J19_copyOfRange_2 x0  x0n x0c w9 (nI x0n) o17 eo17) q798 q799 q61 q800 hd_J19_copyOfRange_2 rfl ⟨Nat.le_of_ble_eq_true rfl, Nat.le_of_ble_eq_true rfl⟩ hS ⟨h_x0, l_x0⟩ hl.1 rfl (Nat.le_of_ble_eq_true rfl) dJ16_trustedStripLeadingZeroInts_33 ⟨Nat.le_of_ble_eq_true rfl, Nat.le_of_ble_eq_true rfl⟩) hS (fun ad18 H locs hp hS hz => ?_)
    obtain ⟨had18, lo17_1, frad18, hO⟩ := hp
    have ne_h_x0_had18 : x0 ≠ ad18 := Nat.ne_of_lt (Nat.lt_of_lt_of_le h_x0.lt frad18)
    have gad18 : s.heap.size ≤ ad18 := Nat.le_trans hF.1 frad18
    have hB_had18 : dB D ≤ ad18 := by have := hS0.1.2.2.1; omega
    have h_x0 := h_x0.ext hO
    have hF := hF.trans (hO.mono (fun _ _ z => z.elim))
    obtain rfl := Option.some.inj h
    rw [eQ]
    exact r_aret hx hb hr (Or.inr ⟨_, rfl⟩) hlk hS (Nat.le_of_ble_eq_true rfl) (Nat.le_of_ble_eq_true rfl) dJ16_trustedStripLeadingZeroInts_36 ⟨_, rfl, had18, lo17_1, hF⟩
  · have h := it_pos h c16
    refine lv_aload_n hx hb dJ16_trustedStripLeadingZeroInts_26 rfl (lv_at hl 0 rfl) ?_
    refine lv_goto (tgt := 36) hx hb dJ16_trustedStripLeadingZeroInts_27 (by decide) ?_
    obtain rfl := Option.some.inj h
    rw [eQ]
    exact r_aret hx hb hr (Or.inr ⟨_, rfl⟩) hlk hS (Nat.le_of_ble_eq_true rfl) (Nat.le_of_ble_eq_true rfl) dJ16_trustedStripLeadingZeroInts_36 ⟨_, rfl, h_x0, l_x0, hF⟩

abbrev R_J17_requireNonNull : Room := { frames := 0, cells := 0, slots := 0, locals := 0 }
noncomputable def f_J17_requireNonNull (_u : Unit) : Option (Unit) :=
  some ()
theorem hd_J17_requireNonNull : Hd yJ17_requireNonNull 1 := by unfold Hd; decide +kernel
set_option maxHeartbeats 4000000 in
set_option maxRecDepth 100000 in
theorem m_J17_requireNonNull {l : Launch} {D : DD} (x0 : Nat)   (r : Unit) (h : f_J17_requireNonNull () = some r) : MP l D yJ17_requireNonNull cJ17_requireNonNull 1 (some (.object "java/lang/Object")) 0 0 [.ref x0] NoPre (some (.ref x0)) := by
  refine MP.start (by decide +kernel) (Nat.le_of_ble_eq_true rfl) ?_
  intro p e s m below meth c ls hC hS hp hl
  obtain ⟨hx, hb, hr, hlk, hml, hown, hts, hnm⟩ := id hC
  have hl : lv_has ls 1 [(0, .ref x0)] := hl
  unfold f_J17_requireNonNull at h
  have hS0 := hS
  obtain ⟨A, eA⟩ : ∃ A : Array Value, A = [.ref x0].toArray := ⟨_, rfl⟩
  rw [← eA] at hC hts ⊢
  obtain ⟨Q, eQ⟩ : ∃ Q : State → Prop, Q = MQ below (PQ (some (.ref x0))) A s 0 0 (fun _ => False) := ⟨_, rfl⟩
  show W p l e R_J17_requireNonNull s m A below meth c s.heap [] 0 0 _ _
  rw [← eQ]
  refine lv_aload_n hx hb dJ17_requireNonNull_0 rfl (lv_at hl 0 rfl) ?_
  refine lv_ifnonnull (tgt := 12) hx hb dJ17_requireNonNull_1 (by decide) ?_
  refine lv_aload_n hx hb dJ17_requireNonNull_12 rfl (lv_at hl 0 rfl) ?_
  obtain rfl := Option.some.inj h
  rw [eQ]
  exact p_aret hx hb hr (Or.inl ⟨_, rfl⟩) hlk dJ17_requireNonNull_13 rfl

abbrev R_J16_multiplyToLenCheck : Room := { frames := 1, cells := 0, slots := 0, locals := 20 }
noncomputable def f_J16_multiplyToLenCheck (x0n : Nat) (x0c : Nat → Int32) (x1 : Int32) : Option (Unit) :=
  (if 0 < x1 then
    Option.bind (f_J17_requireNonNull ()) fun o2 =>
    (if x1 ≤ (nI x0n) then
      some ()
    else
      none
    )
  else
    some ()
  )
theorem hd_J16_multiplyToLenCheck : Hd yJ16_multiplyToLenCheck 2 := by unfold Hd; decide +kernel
set_option maxHeartbeats 4000000 in
set_option maxRecDepth 100000 in
theorem m_J16_multiplyToLenCheck {l : Launch} {D : DD} (x0 : Nat)  (x0n : Nat) (x0c : Nat → Int32) (x1 : Int32) (r : Unit) (h : f_J16_multiplyToLenCheck x0n x0c x1 = some r) : MP l D yJ16_multiplyToLenCheck cJ16_multiplyToLenCheck 2 none 1 20 [.ref x0, .int x1] (fun H => aI D x0 x0n x0c H ∧ x0n ≤ 1000000) none := by
  refine MP.start (by decide +kernel) (Nat.le_of_ble_eq_true rfl) ?_
  intro p e s m below meth c ls hC hS hp hl
  obtain ⟨h_x0, l_x0⟩ := hp
  obtain ⟨hx, hb, hr, hlk, hml, hown, hts, hnm⟩ := id hC
  have hl : lv_has ls 2 [(0, .ref x0), (1, .int x1)] := hl
  unfold f_J16_multiplyToLenCheck at h
  have hS0 := hS
  obtain ⟨A, eA⟩ : ∃ A : Array Value, A = [.ref x0, .int x1].toArray := ⟨_, rfl⟩
  rw [← eA] at hC hts ⊢
  obtain ⟨Q, eQ⟩ : ∃ Q : State → Prop, Q = MQ below (PQ none) A s 0 0 (fun _ => False) := ⟨_, rfl⟩
  show W p l e R_J16_multiplyToLenCheck s m A below meth c s.heap [] 0 0 _ _
  rw [← eQ]
  refine lv_iload_n hx hb dJ16_multiplyToLenCheck_0 rfl (lv_at hl 1 rfl) ?_
  refine lv_if_gt (tgt := 5) hx hb dJ16_multiplyToLenCheck_1 (by decide) (fun c1 => ?_) (fun c1 => ?_)
  · have h := it_pos h c1
    refine lv_aload_n hx hb dJ16_multiplyToLenCheck_5 rfl (lv_at hl 0 rfl) ?_
    obtain ⟨o2, eo2, h⟩ := bind_step h
    refine r_cp (r_runS (rest := []) (As := [.ref x0]) hC 1 (m_J17_requireNonNull x0   o2 eo2) q866 q867 q59 q868 hd_J17_requireNonNull rfl ⟨Nat.le_of_ble_eq_true rfl, Nat.le_of_ble_eq_true rfl⟩ hS trivial hl.1 rfl (Nat.le_of_ble_eq_true rfl) dJ16_multiplyToLenCheck_6 ⟨Nat.le_of_ble_eq_true rfl, Nat.le_of_ble_eq_true rfl⟩) ?_
    refine lv_pop hx hb dJ16_multiplyToLenCheck_9 rfl ?_
    refine lv_iload_n hx hb dJ16_multiplyToLenCheck_10 rfl (lv_at hl 1 rfl) ?_
    refine lv_aload_n hx hb dJ16_multiplyToLenCheck_11 rfl (lv_at hl 0 rfl) ?_
    refine r_alen hx hb hS h_x0 dJ16_multiplyToLenCheck_12 ?_
    refine lv_icmp_le (tgt := 27) hx hb dJ16_multiplyToLenCheck_13 (by decide) (fun c3 => ?_) (fun c3 => ?_)
    · have h := it_pos h c3
      obtain rfl := Option.some.inj h
      rw [eQ]
      exact p_vret hx hb hr hlk dJ16_multiplyToLenCheck_27
    · have h := it_neg h c3
      cases h
  · have h := it_neg h c1
    obtain rfl := Option.some.inj h
    rw [eQ]
    exact p_vret hx hb hr hlk dJ16_multiplyToLenCheck_4

abbrev R_J16_implMultiplyToLen : Room := { frames := 0, cells := 1, slots := 12, locals := 0 }
noncomputable def f_J16_implMultiplyToLen (x0n : Nat) (x0c : Nat → Int32) (x1 : Int32) (x2n : Nat) (x2c : Nat → Int32) (x3 : Int32) : Option (Nat × (Nat → Int32)) :=
  lti (x1 - 1) fun v1 =>
  lti (x3 - 1) fun v2 =>
  lti (x1 + x3) fun v3 =>
  gl 12 v3 fun n5 =>
  lti (v2 + 1) fun v6 =>
  lti (v6 + v1) fun v7 =>
  lt (fun (f8 : Nat → Int32) (v9 : Int64) (v10 : Int32) (v11 : Int32) =>
  (show Option (Sum ((Nat → Int32) × Int64 × Int32 × Int32) ((Nat → Int32) × Int64)) from (
  (if v10 < 0 then
    some (.inr (f8, v9))
  else
    gd x2n v10 fun i35 =>
    lti (x2c i35) fun v36 =>
    ltl (v36.toInt64) fun v37 =>
    ltl ((v37 &&& 4294967295 : Int64)) fun v38 =>
    gd x0n v1 fun i39 =>
    lti (x0c i39) fun v40 =>
    ltl (v40.toInt64) fun v41 =>
    ltl ((v41 &&& 4294967295 : Int64)) fun v42 =>
    ltl ((v38 * v42 : Int64)) fun v43 =>
    ltl ((v43 + v9 : Int64)) fun v44 =>
    lti (v44.toInt32) fun v45 =>
    gd n5 v11 fun i46 =>
    lt (va_up f8 i46 v45) fun f47 =>
    ltl (((v44 : Int64).toUInt64 >>> ((32 : Int32).toInt64.toUInt64 &&& Int64.toUInt64 63)).toInt64) fun v48 =>
    lti (v10 + (-1)) fun v49 =>
    lti (v11 + (-1)) fun v50 =>
    some (.inl (f47, v48, v49, v50))
  )
  ))
  ) fun F31 =>
  Option.bind (lp 41 (fun x => F31 x.1 x.2.1 x.2.2.1 x.2.2.2) ((fun _ => 0), 0, v2, v7)) fun w32 =>
  lti (w32.2.toInt32) fun v51 =>
  gd n5 v1 fun i52 =>
  lt (va_up w32.1 i52 v51) fun f53 =>
  lti (v1 - 1) fun v54 =>
  lt (fun (f55 : Nat → Int32) (v56 : Int32) =>
  (show Option (Sum ((Nat → Int32) × Int32) ((Nat → Int32))) from (
  (if v56 < 0 then
    some (.inr f55)
  else
    lti (v2 + 1) fun v97 =>
    lti (v97 + v56) fun v98 =>
    lt (fun (f99 : Nat → Int32) (v100 : Int64) (v101 : Int32) (v102 : Int32) =>
    (show Option (Sum ((Nat → Int32) × Int64 × Int32 × Int32) ((Nat → Int32) × Int64)) from (
    (if v101 < 0 then
      some (.inr (f99, v100))
    else
      gd x2n v101 fun i131 =>
      lti (x2c i131) fun v132 =>
      ltl (v132.toInt64) fun v133 =>
      ltl ((v133 &&& 4294967295 : Int64)) fun v134 =>
      gd x0n v56 fun i135 =>
      lti (x0c i135) fun v136 =>
      ltl (v136.toInt64) fun v137 =>
      ltl ((v137 &&& 4294967295 : Int64)) fun v138 =>
      ltl ((v134 * v138 : Int64)) fun v139 =>
      gd n5 v102 fun i140 =>
      lti (f99 i140) fun v141 =>
      ltl (v141.toInt64) fun v142 =>
      ltl ((v142 &&& 4294967295 : Int64)) fun v143 =>
      ltl ((v139 + v143 : Int64)) fun v144 =>
      ltl ((v144 + v100 : Int64)) fun v145 =>
      lti (v145.toInt32) fun v146 =>
      gd n5 v102 fun i147 =>
      lt (va_up f99 i147 v146) fun f148 =>
      ltl (((v145 : Int64).toUInt64 >>> ((32 : Int32).toInt64.toUInt64 &&& Int64.toUInt64 63)).toInt64) fun v149 =>
      lti (v101 + (-1)) fun v150 =>
      lti (v102 + (-1)) fun v151 =>
      some (.inl (f148, v149, v150, v151))
    )
    ))
    ) fun F127 =>
    Option.bind (lp 41 (fun x => F127 x.1 x.2.1 x.2.2.1 x.2.2.2) (f55, 0, v2, v98)) fun w128 =>
    lti (w128.2.toInt32) fun v152 =>
    gd n5 v56 fun i153 =>
    lt (va_up w128.1 i153 v152) fun f154 =>
    lti (v56 + (-1)) fun v155 =>
    some (.inl (f154, v155))
  )
  ))
  ) fun F93 =>
  Option.bind (lp 41 (fun x => F93 x.1 x.2) (f53, v54)) fun w94 =>
  some (n5, w94)
theorem hd_J16_implMultiplyToLen : Hd yJ16_implMultiplyToLen 5 := by unfold Hd; decide +kernel
set_option maxHeartbeats 4000000 in
set_option maxRecDepth 100000 in
theorem m_J16_implMultiplyToLen {l : Launch} {D : DD} (x0 : Nat) (x2 : Nat)  (x0n : Nat) (x0c : Nat → Int32) (x1 : Int32) (x2n : Nat) (x2c : Nat → Int32) (x3 : Int32) (r : Nat × (Nat → Int32)) (h : f_J16_implMultiplyToLen x0n x0c x1 x2n x2c x3 = some r) : MT l D yJ16_implMultiplyToLen cJ16_implMultiplyToLen 14 (some (.array .int)) 0 0 1 12 [.ref x0, .int x1, .ref x2, .int x3, .null] (fun H => aI D x0 x0n x0c H ∧ x0n ≤ 1000000 ∧ aI D x2 x2n x2c H ∧ x2n ≤ 1000000) (pR (fun H b H' => aI D b r.1 r.2 H' ∧ r.1 ≤ 1000000 ∧ H.size ≤ b ∧ Off (fun _ => False) H H')) := by
  refine MT.start (by decide +kernel) (Nat.le_of_ble_eq_true rfl) ?_
  intro p e s m below meth c ls hC hS hp hl
  obtain ⟨h_x0, l_x0, h_x2, l_x2⟩ := hp
  obtain ⟨hx, hb, hr, hlk, hml, hown, hts, hnm⟩ := id hC
  have hl : lv_has ls 14 [(0, .ref x0), (1, .int x1), (2, .ref x2), (3, .int x3), (4, .null)] := hl
  unfold f_J16_implMultiplyToLen at h
  have hS0 := hS
  obtain ⟨A, eA⟩ : ∃ A : Array Value, A = [.ref x0, .int x1, .ref x2, .int x3, .null].toArray := ⟨_, rfl⟩
  rw [← eA] at hC hts ⊢
  obtain ⟨Q, eQ⟩ : ∃ Q : State → Prop, Q = MQ below (TQ D (pR (fun H b H' => aI D b r.1 r.2 H' ∧ r.1 ≤ 1000000 ∧ H.size ≤ b ∧ Off (fun _ => False) H H'))) A s 1 12 (fun q => dB D ≤ q) := ⟨_, rfl⟩
  have hF : Off (fun _ => False) s.heap s.heap := Off.rf
  show W p l e R_J16_implMultiplyToLen s m A below meth c s.heap [] 0 0 _ _
  rw [← eQ]
  obtain ⟨H, eH⟩ : ∃ H : Heap, H = s.heap := ⟨_, rfl⟩
  obtain ⟨locs, eLc⟩ : ∃ L : List Loc, L = [] := ⟨_, rfl⟩
  have lt_h_x0 := h_x0.lt
  have lt_h_x2 := h_x2.lt
  rw [← eH, ← eLc]
  have hF : Off (fun _ => False) s.heap H := by rw [eH]; exact hF
  rw [← eH] at h_x0
  rw [← eH] at h_x2
  have hS : St D s H locs := by rw [eH, eLc]; exact hS
  refine lv_iload_n hx hb dJ16_implMultiplyToLen_0 rfl (lv_at hl 1 rfl) ?_
  refine lv_iconst (v := 1) hx hb dJ16_implMultiplyToLen_1 (by decide) ?_
  obtain ⟨v1, ev1, h⟩ := lti_step h
  refine r_isub hx hb ev1 dJ16_implMultiplyToLen_2 ?_
  refine lv_istore (lv' := [(5, .int v1), (0, .ref x0), (1, .int x1), (2, .ref x2), (3, .int x3), (4, .null)]) hx hb dJ16_implMultiplyToLen_3 hl (by decide) rfl (fun ls hl => ?_)
  refine lv_iload_n hx hb dJ16_implMultiplyToLen_5 rfl (lv_at hl 4 rfl) ?_
  refine lv_iconst (v := 1) hx hb dJ16_implMultiplyToLen_6 (by decide) ?_
  obtain ⟨v2, ev2, h⟩ := lti_step h
  refine r_isub hx hb ev2 dJ16_implMultiplyToLen_7 ?_
  refine lv_istore (lv' := [(6, .int v2), (5, .int v1), (0, .ref x0), (1, .int x1), (2, .ref x2), (3, .int x3), (4, .null)]) hx hb dJ16_implMultiplyToLen_8 hl (by decide) rfl (fun ls hl => ?_)
  refine lv_aloadN hx hb dJ16_implMultiplyToLen_10 (lv_at hl 6 rfl) ?_
  refine lv_ifnullN (tgt := 24) hx hb dJ16_implMultiplyToLen_12 (by decide) ?_
  refine lv_iload_n hx hb dJ16_implMultiplyToLen_24 rfl (lv_at hl 3 rfl) ?_
  refine lv_iload_n hx hb dJ16_implMultiplyToLen_25 rfl (lv_at hl 5 rfl) ?_
  obtain ⟨v3, ev3, h⟩ := lti_step h
  refine r_iadd hx hb ev3 dJ16_implMultiplyToLen_26 ?_
  obtain ⟨n5, xn5, h⟩ := gl_step (by decide) h
  refine r_newaB hx hb hts hS (ty := .int) rfl q453 12 n5 xn5 (by decide) (by decide) (Nat.le_of_ble_eq_true rfl) (Nat.le_of_ble_eq_true rfl) dJ16_implMultiplyToLen_27 (fun ad4 H eq_ad4 hS hE had4 z_ad4 hB_had4 => ?_)
  have had4 : aI D ad4 n5 (fun _ => 0) H := had4
  have gad4 : s.heap.size ≤ ad4 := by have := hF.1; omega
  have ne_h_x0_had4 : x0 ≠ ad4 := by have := h_x0.lt; omega
  have h_x0 := h_x0.ext hE
  have ne_h_x2_had4 : x2 ≠ ad4 := by have := h_x2.lt; omega
  have h_x2 := h_x2.ext hE
  have hF := hF.trans (hE.mono (fun _ _ z => z.elim))
  refine lv_astore (lv' := [(4, .ref ad4), (6, .int v2), (5, .int v1), (0, .ref x0), (1, .int x1), (2, .ref x2), (3, .int x3)]) hx hb dJ16_implMultiplyToLen_29 hl (by decide) rfl (fun ls hl => ?_)
  refine lv_lconst (v := 0) hx hb dJ16_implMultiplyToLen_31 rfl ?_
  refine lv_lstore (lv' := [(7, .long 0), (4, .ref ad4), (6, .int v2), (5, .int v1), (0, .ref x0), (1, .int x1), (2, .ref x2), (3, .int x3)]) hx hb dJ16_implMultiplyToLen_32 hl (by decide) rfl (fun ls hl => ?_)
  refine lv_iload hx hb dJ16_implMultiplyToLen_34 (lv_at hl 2 rfl) ?_
  refine lv_istore (lv' := [(9, .int v2), (7, .long 0), (4, .ref ad4), (6, .int v2), (5, .int v1), (0, .ref x0), (1, .int x1), (2, .ref x2), (3, .int x3)]) hx hb dJ16_implMultiplyToLen_36 hl (by decide) rfl (fun ls hl => ?_)
  refine lv_iload hx hb dJ16_implMultiplyToLen_38 (lv_at hl 3 rfl) ?_
  refine lv_iconst (v := 1) hx hb dJ16_implMultiplyToLen_40 (by decide) ?_
  obtain ⟨v6, ev6, h⟩ := lti_step h
  refine r_iadd hx hb ev6 dJ16_implMultiplyToLen_41 ?_
  refine lv_iload hx hb dJ16_implMultiplyToLen_42 (lv_at hl 4 rfl) ?_
  obtain ⟨v7, ev7, h⟩ := lti_step h
  refine r_iadd hx hb ev7 dJ16_implMultiplyToLen_44 ?_
  refine lv_istore (lv' := [(10, .int v7), (9, .int v2), (7, .long 0), (4, .ref ad4), (6, .int v2), (5, .int v1), (0, .ref x0), (1, .int x1), (2, .ref x2), (3, .int x3)]) hx hb dJ16_implMultiplyToLen_45 hl (by decide) rfl (fun ls hl => ?_)
  obtain ⟨F31, eF31, h⟩ := lt_step h
  obtain ⟨w32, ew32, h⟩ := bind_step h
  have HL : ∀ (n : Nat) (f8 : Nat → Int32) (v9 : Int64) (v10 : Int32) (v11 : Int32) (w32 : (Nat → Int32) × Int64) (hk0 : lp n (fun x => F31 x.1 x.2.1 x.2.2.1 x.2.2.2) (f8, v9, v10, v11) = some w32)  (H : Heap) (locs : List Loc) (hS : St D s H locs) (hF : Off (fun _ => False) s.heap H) (h_x0 : aI D x0 x0n x0c H) (h_x2 : aI D x2 x2n x2c H) (had4 : aI D ad4 n5 f8 H) (ls : Array Slot) (hl : lv_has ls 14 [(0, .ref x0), (2, .ref x2), (4, .ref ad4), (5, .int v1), (6, .int v2), (7, .long v9), (9, .int v10), (10, .int v11)]) (K100 : ∀ (H : Heap) (locs : List Loc) (hS : St D s H locs) (hF : Off (fun _ => False) s.heap H) (h_x0 : aI D x0 x0n x0c H) (h_x2 : aI D x2 x2n x2c H) (had4 : aI D ad4 n5 w32.1 H) (ls : Array Slot) (hl : lv_has ls 14 [(0, .ref x0), (2, .ref x2), (4, .ref ad4), (5, .int v1), (6, .int v2), (7, .long w32.2)]), W p l e R_J16_implMultiplyToLen s m A below meth c H locs 1 12 Q (F0 m 100 ls [])), W p l e R_J16_implMultiplyToLen s m A below meth c H locs 1 12 Q (F0 m 47 ls []) := by
    intro n
    induction n with
    | zero => intro f8 v9 v10 v11 w32 hk0  H locs hS hF h_x0 h_x2 had4 ls hl K100; exact lp_zero hk0
    | succ n ih =>
      intro f8 v9 v10 v11 w32 hk0  H locs hS hF h_x0 h_x2 had4 ls hl K100
      obtain ⟨z33, hz, hk⟩ := lp_step hk0
      have h := (congrFun (congrFun (congrFun (congrFun (eF31) f8) v9) v10) v11).symm.trans hz
      refine lv_iload hx hb dJ16_implMultiplyToLen_47 (lv_at hl 6 rfl) ?_
      refine lv_if_lt (tgt := 100) hx hb dJ16_implMultiplyToLen_49 (by decide) (fun c34 => ?_) (fun c34 => ?_)
      · have h := it_pos h c34
        obtain rfl := Option.some.inj h
        obtain rfl := id hk
        exact K100 H locs hS hF h_x0 h_x2 had4 ls (lv_sub hl [0, 1, 2, 3, 4, 5] rfl)
      · have h := it_neg h c34
        refine lv_aload_n hx hb dJ16_implMultiplyToLen_52 rfl (lv_at hl 1 rfl) ?_
        refine lv_iload hx hb dJ16_implMultiplyToLen_53 (lv_at hl 6 rfl) ?_
        obtain ⟨i35, xi35, h⟩ := gd_step (nl0 l_x2) h
        refine r_iald hx hb hS h_x2 i35 xi35 dJ16_implMultiplyToLen_55 ?_
        obtain ⟨v36, ev36, h⟩ := lti_step h
        refine r_nmI ev36 ?_
        obtain ⟨v37, ev37, h⟩ := ltl_step h
        refine r_i2l hx hb ev37 dJ16_implMultiplyToLen_56 ?_
        refine lv_ldc2 hx hb (v := 4294967295) hown (hts _ q775) dJ16_implMultiplyToLen_57 ?_
        obtain ⟨v38, ev38, h⟩ := ltl_step h
        refine r_land hx hb ev38 dJ16_implMultiplyToLen_60 ?_
        refine lv_aload_n hx hb dJ16_implMultiplyToLen_61 rfl (lv_at hl 0 rfl) ?_
        refine lv_iload hx hb dJ16_implMultiplyToLen_62 (lv_at hl 3 rfl) ?_
        obtain ⟨i39, xi39, h⟩ := gd_step (nl0 l_x0) h
        refine r_iald hx hb hS h_x0 i39 xi39 dJ16_implMultiplyToLen_64 ?_
        obtain ⟨v40, ev40, h⟩ := lti_step h
        refine r_nmI ev40 ?_
        obtain ⟨v41, ev41, h⟩ := ltl_step h
        refine r_i2l hx hb ev41 dJ16_implMultiplyToLen_65 ?_
        refine lv_ldc2 hx hb (v := 4294967295) hown (hts _ q775) dJ16_implMultiplyToLen_66 ?_
        obtain ⟨v42, ev42, h⟩ := ltl_step h
        refine r_land hx hb ev42 dJ16_implMultiplyToLen_69 ?_
        obtain ⟨v43, ev43, h⟩ := ltl_step h
        refine r_lmul hx hb ev43 dJ16_implMultiplyToLen_70 ?_
        refine lv_lload hx hb dJ16_implMultiplyToLen_71 (lv_at hl 5 rfl) ?_
        obtain ⟨v44, ev44, h⟩ := ltl_step h
        refine r_ladd hx hb ev44 dJ16_implMultiplyToLen_73 ?_
        refine lv_lstore (lv' := [(11, .long v44), (0, .ref x0), (2, .ref x2), (4, .ref ad4), (5, .int v1), (6, .int v2), (7, .long v9), (9, .int v10), (10, .int v11)]) hx hb dJ16_implMultiplyToLen_74 hl (by decide) rfl (fun ls hl => ?_)
        refine lv_aload hx hb dJ16_implMultiplyToLen_76 (lv_at hl 3 rfl) ?_
        refine lv_iload hx hb dJ16_implMultiplyToLen_78 (lv_at hl 8 rfl) ?_
        refine lv_lload hx hb dJ16_implMultiplyToLen_80 (lv_at hl 0 rfl) ?_
        obtain ⟨v45, ev45, h⟩ := lti_step h
        refine r_l2i hx hb ev45 dJ16_implMultiplyToLen_82 ?_
        obtain ⟨i46, xi46, h⟩ := gd_step (nl0 (le_of_gl xn5 (by decide))) h
        obtain ⟨f47, ef47, h⟩ := lt_step h
        refine r_iast hx hb hS had4 hB_had4 i46 xi46 dJ16_implMultiplyToLen_83 (fun H locs hS hO had4 => ?_)
        have had4 : aI D ad4 n5 f47 H := by rw [ef47]; exact had4
        have h_x0 := h_x0.off hO ne_h_x0_had4
        have h_x2 := h_x2.off hO ne_h_x2_had4
        have hF := hF.fresh hO (fun a ha z => absurd (z ▸ ha) (Nat.not_lt.mpr gad4))
        refine lv_lload hx hb dJ16_implMultiplyToLen_84 (lv_at hl 0 rfl) ?_
        refine lv_bipush (v := 32) hx hb dJ16_implMultiplyToLen_86 (by decide) ?_
        obtain ⟨v48, ev48, h⟩ := ltl_step h
        refine r_lushr hx hb ev48 dJ16_implMultiplyToLen_88 ?_
        refine lv_lstore (lv' := [(7, .long v48), (11, .long v44), (0, .ref x0), (2, .ref x2), (4, .ref ad4), (5, .int v1), (6, .int v2), (9, .int v10), (10, .int v11)]) hx hb dJ16_implMultiplyToLen_89 hl (by decide) rfl (fun ls hl => ?_)
        obtain ⟨v49, ev49, h⟩ := lti_step h
        refine lv_iinc (v := v49) (lv' := [(9, .int v49), (7, .long v48), (11, .long v44), (0, .ref x0), (2, .ref x2), (4, .ref ad4), (5, .int v1), (6, .int v2), (10, .int v11)]) hx hb dJ16_implMultiplyToLen_91 hl (k := 7) rfl (by rw [ev49]; rfl) (by decide) rfl (fun ls hl => ?_)
        obtain ⟨v50, ev50, h⟩ := lti_step h
        refine lv_iinc (v := v50) (lv' := [(10, .int v50), (9, .int v49), (7, .long v48), (11, .long v44), (0, .ref x0), (2, .ref x2), (4, .ref ad4), (5, .int v1), (6, .int v2)]) hx hb dJ16_implMultiplyToLen_94 hl (k := 8) rfl (by rw [ev50]; rfl) (by decide) rfl (fun ls hl => ?_)
        refine lv_goto (tgt := 47) hx hb dJ16_implMultiplyToLen_97 (by decide) ?_
        obtain rfl := Option.some.inj h
        exact ih f47 v48 v49 v50 w32 hk  H locs hS hF h_x0 h_x2 had4 ls (lv_sub hl [4, 5, 6, 7, 8, 2, 1, 0] rfl) K100
  clear eF31
  refine HL 41 (fun _ => 0) 0 v2 v7 w32 ew32  H locs hS hF h_x0 h_x2 had4 ls (lv_sub hl [6, 8, 3, 5, 4, 2, 1, 0] rfl) (fun  H locs hS hF h_x0 h_x2 had4 ls hl => ?_)
  refine lv_aload hx hb dJ16_implMultiplyToLen_100 (lv_at hl 2 rfl) ?_
  refine lv_iload hx hb dJ16_implMultiplyToLen_102 (lv_at hl 3 rfl) ?_
  refine lv_lload hx hb dJ16_implMultiplyToLen_104 (lv_at hl 5 rfl) ?_
  obtain ⟨v51, ev51, h⟩ := lti_step h
  refine r_l2i hx hb ev51 dJ16_implMultiplyToLen_106 ?_
  obtain ⟨i52, xi52, h⟩ := gd_step (nl0 (le_of_gl xn5 (by decide))) h
  obtain ⟨f53, ef53, h⟩ := lt_step h
  refine r_iast hx hb hS had4 hB_had4 i52 xi52 dJ16_implMultiplyToLen_107 (fun H locs hS hO had4 => ?_)
  have had4 : aI D ad4 n5 f53 H := by rw [ef53]; exact had4
  have h_x0 := h_x0.off hO ne_h_x0_had4
  have h_x2 := h_x2.off hO ne_h_x2_had4
  have hF := hF.fresh hO (fun a ha z => absurd (z ▸ ha) (Nat.not_lt.mpr gad4))
  refine lv_iload hx hb dJ16_implMultiplyToLen_108 (lv_at hl 3 rfl) ?_
  refine lv_iconst (v := 1) hx hb dJ16_implMultiplyToLen_110 (by decide) ?_
  obtain ⟨v54, ev54, h⟩ := lti_step h
  refine r_isub hx hb ev54 dJ16_implMultiplyToLen_111 ?_
  refine lv_istore (lv' := [(9, .int v54), (0, .ref x0), (2, .ref x2), (4, .ref ad4), (5, .int v1), (6, .int v2), (7, .long w32.2)]) hx hb dJ16_implMultiplyToLen_112 hl (by decide) rfl (fun ls hl => ?_)
  obtain ⟨F93, eF93, h⟩ := lt_step h
  obtain ⟨w94, ew94, h⟩ := bind_step h
  have HL : ∀ (n : Nat) (f55 : Nat → Int32) (v56 : Int32) (w94 : (Nat → Int32)) (hk0 : lp n (fun x => F93 x.1 x.2) (f55, v56) = some w94)  (H : Heap) (locs : List Loc) (hS : St D s H locs) (hF : Off (fun _ => False) s.heap H) (h_x0 : aI D x0 x0n x0c H) (h_x2 : aI D x2 x2n x2c H) (had4 : aI D ad4 n5 f55 H) (ls : Array Slot) (hl : lv_has ls 14 [(0, .ref x0), (2, .ref x2), (4, .ref ad4), (6, .int v2), (9, .int v56)]) (K213 : ∀ (H : Heap) (locs : List Loc) (hS : St D s H locs) (hF : Off (fun _ => False) s.heap H) (h_x0 : aI D x0 x0n x0c H) (h_x2 : aI D x2 x2n x2c H) (had4 : aI D ad4 n5 w94 H) (ls : Array Slot) (hl : lv_has ls 14 [(4, .ref ad4)]), W p l e R_J16_implMultiplyToLen s m A below meth c H locs 1 12 Q (F0 m 213 ls [])), W p l e R_J16_implMultiplyToLen s m A below meth c H locs 1 12 Q (F0 m 114 ls []) := by
    intro n
    induction n with
    | zero => intro f55 v56 w94 hk0  H locs hS hF h_x0 h_x2 had4 ls hl K213; exact lp_zero hk0
    | succ n ih =>
      intro f55 v56 w94 hk0  H locs hS hF h_x0 h_x2 had4 ls hl K213
      obtain ⟨z95, hz, hk⟩ := lp_step hk0
      have h := (congrFun (congrFun (eF93) f55) v56).symm.trans hz
      refine lv_iload hx hb dJ16_implMultiplyToLen_114 (lv_at hl 4 rfl) ?_
      refine lv_if_lt (tgt := 213) hx hb dJ16_implMultiplyToLen_116 (by decide) (fun c96 => ?_) (fun c96 => ?_)
      · have h := it_pos h c96
        obtain rfl := Option.some.inj h
        obtain rfl := id hk
        exact K213 H locs hS hF h_x0 h_x2 had4 ls (lv_sub hl [2] rfl)
      · have h := it_neg h c96
        refine lv_lconst (v := 0) hx hb dJ16_implMultiplyToLen_119 rfl ?_
        refine lv_lstore (lv' := [(7, .long 0), (0, .ref x0), (2, .ref x2), (4, .ref ad4), (6, .int v2), (9, .int v56)]) hx hb dJ16_implMultiplyToLen_120 hl (by decide) rfl (fun ls hl => ?_)
        refine lv_iload hx hb dJ16_implMultiplyToLen_122 (lv_at hl 4 rfl) ?_
        refine lv_istore (lv' := [(10, .int v2), (7, .long 0), (0, .ref x0), (2, .ref x2), (4, .ref ad4), (6, .int v2), (9, .int v56)]) hx hb dJ16_implMultiplyToLen_124 hl (by decide) rfl (fun ls hl => ?_)
        refine lv_iload hx hb dJ16_implMultiplyToLen_126 (lv_at hl 5 rfl) ?_
        refine lv_iconst (v := 1) hx hb dJ16_implMultiplyToLen_128 (by decide) ?_
        obtain ⟨v97, ev97, h⟩ := lti_step h
        refine r_iadd hx hb ev97 dJ16_implMultiplyToLen_129 ?_
        refine lv_iload hx hb dJ16_implMultiplyToLen_130 (lv_at hl 6 rfl) ?_
        obtain ⟨v98, ev98, h⟩ := lti_step h
        refine r_iadd hx hb ev98 dJ16_implMultiplyToLen_132 ?_
        refine lv_istore (lv' := [(11, .int v98), (10, .int v2), (7, .long 0), (0, .ref x0), (2, .ref x2), (4, .ref ad4), (6, .int v2), (9, .int v56)]) hx hb dJ16_implMultiplyToLen_133 hl (by decide) rfl (fun ls hl => ?_)
        obtain ⟨F127, eF127, h⟩ := lt_step h
        obtain ⟨w128, ew128, h⟩ := bind_step h
        have HL : ∀ (n : Nat) (f99 : Nat → Int32) (v100 : Int64) (v101 : Int32) (v102 : Int32) (w128 : (Nat → Int32) × Int64) (hk0 : lp n (fun x => F127 x.1 x.2.1 x.2.2.1 x.2.2.2) (f99, v100, v101, v102) = some w128)  (H : Heap) (locs : List Loc) (hS : St D s H locs) (hF : Off (fun _ => False) s.heap H) (h_x0 : aI D x0 x0n x0c H) (h_x2 : aI D x2 x2n x2c H) (had4 : aI D ad4 n5 f99 H) (ls : Array Slot) (hl : lv_has ls 14 [(0, .ref x0), (2, .ref x2), (4, .ref ad4), (6, .int v2), (7, .long v100), (9, .int v56), (10, .int v101), (11, .int v102)]) (K199 : ∀ (H : Heap) (locs : List Loc) (hS : St D s H locs) (hF : Off (fun _ => False) s.heap H) (h_x0 : aI D x0 x0n x0c H) (h_x2 : aI D x2 x2n x2c H) (had4 : aI D ad4 n5 w128.1 H) (ls : Array Slot) (hl : lv_has ls 14 [(0, .ref x0), (2, .ref x2), (4, .ref ad4), (6, .int v2), (7, .long w128.2), (9, .int v56)]), W p l e R_J16_implMultiplyToLen s m A below meth c H locs 1 12 Q (F0 m 199 ls [])), W p l e R_J16_implMultiplyToLen s m A below meth c H locs 1 12 Q (F0 m 135 ls []) := by
          intro n
          induction n with
          | zero => intro f99 v100 v101 v102 w128 hk0  H locs hS hF h_x0 h_x2 had4 ls hl K199; exact lp_zero hk0
          | succ n ih =>
            intro f99 v100 v101 v102 w128 hk0  H locs hS hF h_x0 h_x2 had4 ls hl K199
            obtain ⟨z129, hz, hk⟩ := lp_step hk0
            have h := (congrFun (congrFun (congrFun (congrFun (eF127) f99) v100) v101) v102).symm.trans hz
            refine lv_iload hx hb dJ16_implMultiplyToLen_135 (lv_at hl 6 rfl) ?_
            refine lv_if_lt (tgt := 199) hx hb dJ16_implMultiplyToLen_137 (by decide) (fun c130 => ?_) (fun c130 => ?_)
            · have h := it_pos h c130
              obtain rfl := Option.some.inj h
              obtain rfl := id hk
              exact K199 H locs hS hF h_x0 h_x2 had4 ls (lv_sub hl [0, 1, 2, 3, 4, 5] rfl)
            · have h := it_neg h c130
              refine lv_aload_n hx hb dJ16_implMultiplyToLen_140 rfl (lv_at hl 1 rfl) ?_
              refine lv_iload hx hb dJ16_implMultiplyToLen_141 (lv_at hl 6 rfl) ?_
              obtain ⟨i131, xi131, h⟩ := gd_step (nl0 l_x2) h
              refine r_iald hx hb hS h_x2 i131 xi131 dJ16_implMultiplyToLen_143 ?_
              obtain ⟨v132, ev132, h⟩ := lti_step h
              refine r_nmI ev132 ?_
              obtain ⟨v133, ev133, h⟩ := ltl_step h
              refine r_i2l hx hb ev133 dJ16_implMultiplyToLen_144 ?_
              refine lv_ldc2 hx hb (v := 4294967295) hown (hts _ q775) dJ16_implMultiplyToLen_145 ?_
              obtain ⟨v134, ev134, h⟩ := ltl_step h
              refine r_land hx hb ev134 dJ16_implMultiplyToLen_148 ?_
              refine lv_aload_n hx hb dJ16_implMultiplyToLen_149 rfl (lv_at hl 0 rfl) ?_
              refine lv_iload hx hb dJ16_implMultiplyToLen_150 (lv_at hl 5 rfl) ?_
              obtain ⟨i135, xi135, h⟩ := gd_step (nl0 l_x0) h
              refine r_iald hx hb hS h_x0 i135 xi135 dJ16_implMultiplyToLen_152 ?_
              obtain ⟨v136, ev136, h⟩ := lti_step h
              refine r_nmI ev136 ?_
              obtain ⟨v137, ev137, h⟩ := ltl_step h
              refine r_i2l hx hb ev137 dJ16_implMultiplyToLen_153 ?_
              refine lv_ldc2 hx hb (v := 4294967295) hown (hts _ q775) dJ16_implMultiplyToLen_154 ?_
              obtain ⟨v138, ev138, h⟩ := ltl_step h
              refine r_land hx hb ev138 dJ16_implMultiplyToLen_157 ?_
              obtain ⟨v139, ev139, h⟩ := ltl_step h
              refine r_lmul hx hb ev139 dJ16_implMultiplyToLen_158 ?_
              refine lv_aload hx hb dJ16_implMultiplyToLen_159 (lv_at hl 2 rfl) ?_
              refine lv_iload hx hb dJ16_implMultiplyToLen_161 (lv_at hl 7 rfl) ?_
              obtain ⟨i140, xi140, h⟩ := gd_step (nl0 (le_of_gl xn5 (by decide))) h
              refine r_iald hx hb hS had4 i140 xi140 dJ16_implMultiplyToLen_163 ?_
              obtain ⟨v141, ev141, h⟩ := lti_step h
              refine r_nmI ev141 ?_
              obtain ⟨v142, ev142, h⟩ := ltl_step h
              refine r_i2l hx hb ev142 dJ16_implMultiplyToLen_164 ?_
              refine lv_ldc2 hx hb (v := 4294967295) hown (hts _ q775) dJ16_implMultiplyToLen_165 ?_
              obtain ⟨v143, ev143, h⟩ := ltl_step h
              refine r_land hx hb ev143 dJ16_implMultiplyToLen_168 ?_
              obtain ⟨v144, ev144, h⟩ := ltl_step h
              refine r_ladd hx hb ev144 dJ16_implMultiplyToLen_169 ?_
              refine lv_lload hx hb dJ16_implMultiplyToLen_170 (lv_at hl 4 rfl) ?_
              obtain ⟨v145, ev145, h⟩ := ltl_step h
              refine r_ladd hx hb ev145 dJ16_implMultiplyToLen_172 ?_
              refine lv_lstore (lv' := [(12, .long v145), (0, .ref x0), (2, .ref x2), (4, .ref ad4), (6, .int v2), (7, .long v100), (9, .int v56), (10, .int v101), (11, .int v102)]) hx hb dJ16_implMultiplyToLen_173 hl (by decide) rfl (fun ls hl => ?_)
              refine lv_aload hx hb dJ16_implMultiplyToLen_175 (lv_at hl 3 rfl) ?_
              refine lv_iload hx hb dJ16_implMultiplyToLen_177 (lv_at hl 8 rfl) ?_
              refine lv_lload hx hb dJ16_implMultiplyToLen_179 (lv_at hl 0 rfl) ?_
              obtain ⟨v146, ev146, h⟩ := lti_step h
              refine r_l2i hx hb ev146 dJ16_implMultiplyToLen_181 ?_
              obtain ⟨i147, xi147, h⟩ := gd_step (nl0 (le_of_gl xn5 (by decide))) h
              obtain ⟨f148, ef148, h⟩ := lt_step h
              refine r_iast hx hb hS had4 hB_had4 i147 xi147 dJ16_implMultiplyToLen_182 (fun H locs hS hO had4 => ?_)
              have had4 : aI D ad4 n5 f148 H := by rw [ef148]; exact had4
              have h_x0 := h_x0.off hO ne_h_x0_had4
              have h_x2 := h_x2.off hO ne_h_x2_had4
              have hF := hF.fresh hO (fun a ha z => absurd (z ▸ ha) (Nat.not_lt.mpr gad4))
              refine lv_lload hx hb dJ16_implMultiplyToLen_183 (lv_at hl 0 rfl) ?_
              refine lv_bipush (v := 32) hx hb dJ16_implMultiplyToLen_185 (by decide) ?_
              obtain ⟨v149, ev149, h⟩ := ltl_step h
              refine r_lushr hx hb ev149 dJ16_implMultiplyToLen_187 ?_
              refine lv_lstore (lv' := [(7, .long v149), (12, .long v145), (0, .ref x0), (2, .ref x2), (4, .ref ad4), (6, .int v2), (9, .int v56), (10, .int v101), (11, .int v102)]) hx hb dJ16_implMultiplyToLen_188 hl (by decide) rfl (fun ls hl => ?_)
              obtain ⟨v150, ev150, h⟩ := lti_step h
              refine lv_iinc (v := v150) (lv' := [(10, .int v150), (7, .long v149), (12, .long v145), (0, .ref x0), (2, .ref x2), (4, .ref ad4), (6, .int v2), (9, .int v56), (11, .int v102)]) hx hb dJ16_implMultiplyToLen_190 hl (k := 7) rfl (by rw [ev150]; rfl) (by decide) rfl (fun ls hl => ?_)
              obtain ⟨v151, ev151, h⟩ := lti_step h
              refine lv_iinc (v := v151) (lv' := [(11, .int v151), (10, .int v150), (7, .long v149), (12, .long v145), (0, .ref x0), (2, .ref x2), (4, .ref ad4), (6, .int v2), (9, .int v56)]) hx hb dJ16_implMultiplyToLen_193 hl (k := 8) rfl (by rw [ev151]; rfl) (by decide) rfl (fun ls hl => ?_)
              refine lv_goto (tgt := 135) hx hb dJ16_implMultiplyToLen_196 (by decide) ?_
              obtain rfl := Option.some.inj h
              exact ih f148 v149 v150 v151 w128 hk  H locs hS hF h_x0 h_x2 had4 ls (lv_sub hl [4, 5, 6, 7, 2, 8, 1, 0] rfl) K199
        clear eF127
        refine HL 41 f55 0 v2 v98 w128 ew128  H locs hS hF h_x0 h_x2 had4 ls (lv_sub hl [3, 4, 5, 6, 2, 7, 1, 0] rfl) (fun  H locs hS hF h_x0 h_x2 had4 ls hl => ?_)
        refine lv_aload hx hb dJ16_implMultiplyToLen_199 (lv_at hl 2 rfl) ?_
        refine lv_iload hx hb dJ16_implMultiplyToLen_201 (lv_at hl 5 rfl) ?_
        refine lv_lload hx hb dJ16_implMultiplyToLen_203 (lv_at hl 4 rfl) ?_
        obtain ⟨v152, ev152, h⟩ := lti_step h
        refine r_l2i hx hb ev152 dJ16_implMultiplyToLen_205 ?_
        obtain ⟨i153, xi153, h⟩ := gd_step (nl0 (le_of_gl xn5 (by decide))) h
        obtain ⟨f154, ef154, h⟩ := lt_step h
        refine r_iast hx hb hS had4 hB_had4 i153 xi153 dJ16_implMultiplyToLen_206 (fun H locs hS hO had4 => ?_)
        have had4 : aI D ad4 n5 f154 H := by rw [ef154]; exact had4
        have h_x0 := h_x0.off hO ne_h_x0_had4
        have h_x2 := h_x2.off hO ne_h_x2_had4
        have hF := hF.fresh hO (fun a ha z => absurd (z ▸ ha) (Nat.not_lt.mpr gad4))
        obtain ⟨v155, ev155, h⟩ := lti_step h
        refine lv_iinc (v := v155) (lv' := [(9, .int v155), (0, .ref x0), (2, .ref x2), (4, .ref ad4), (6, .int v2), (7, .long w128.2)]) hx hb dJ16_implMultiplyToLen_207 hl (k := 5) rfl (by rw [ev155]; rfl) (by decide) rfl (fun ls hl => ?_)
        refine lv_goto (tgt := 114) hx hb dJ16_implMultiplyToLen_210 (by decide) ?_
        obtain rfl := Option.some.inj h
        exact ih f154 v155 w94 hk  H locs hS hF h_x0 h_x2 had4 ls (lv_sub hl [1, 2, 3, 4, 0] rfl) K213
  clear eF93
  refine HL 41 f53 v54 w94 ew94  H locs hS hF h_x0 h_x2 had4 ls (lv_sub hl [1, 2, 3, 5, 0] rfl) (fun  H locs hS hF h_x0 h_x2 had4 ls hl => ?_)
  refine lv_aload hx hb dJ16_implMultiplyToLen_213 (lv_at hl 0 rfl) ?_
  obtain rfl := Option.some.inj h
  rw [eQ]
  exact r_aret hx hb hr (Or.inr ⟨_, rfl⟩) hlk hS (Nat.le_of_ble_eq_true rfl) (Nat.le_of_ble_eq_true rfl) dJ16_implMultiplyToLen_215 ⟨_, rfl, had4, (le_of_gl xn5 (by decide)), gad4, hF⟩

abbrev R_J16_multiplyToLen : Room := { frames := 2, cells := 1, slots := 12, locals := 41 }
noncomputable def f_J16_multiplyToLen (x0n : Nat) (x0c : Nat → Int32) (x1 : Int32) (x2n : Nat) (x2c : Nat → Int32) (x3 : Int32) : Option (Nat × (Nat → Int32)) :=
  Option.bind (f_J16_multiplyToLenCheck x0n x0c x1) fun o1 =>
  Option.bind (f_J16_multiplyToLenCheck x2n x2c x3) fun o2 =>
  Option.bind (f_J16_implMultiplyToLen x0n x0c x1 x2n x2c x3) fun o3 =>
  some (o3.1, o3.2)
theorem hd_J16_multiplyToLen : Hd yJ16_multiplyToLen 5 := by unfold Hd; decide +kernel
set_option maxHeartbeats 4000000 in
set_option maxRecDepth 100000 in
theorem m_J16_multiplyToLen {l : Launch} {D : DD} (x0 : Nat) (x2 : Nat)  (x0n : Nat) (x0c : Nat → Int32) (x1 : Int32) (x2n : Nat) (x2c : Nat → Int32) (x3 : Int32) (r : Nat × (Nat → Int32)) (h : f_J16_multiplyToLen x0n x0c x1 x2n x2c x3 = some r) : MT l D yJ16_multiplyToLen cJ16_multiplyToLen 5 (some (.array .int)) 2 41 1 12 [.ref x0, .int x1, .ref x2, .int x3, .null] (fun H => aI D x0 x0n x0c H ∧ x0n ≤ 1000000 ∧ aI D x2 x2n x2c H ∧ x2n ≤ 1000000) (pR (fun H b H' => aI D b r.1 r.2 H' ∧ r.1 ≤ 1000000 ∧ H.size ≤ b ∧ Off (fun _ => False) H H')) := by
  refine MT.start (by decide +kernel) (Nat.le_of_ble_eq_true rfl) ?_
  intro p e s m below meth c ls hC hS hp hl
  obtain ⟨h_x0, l_x0, h_x2, l_x2⟩ := hp
  obtain ⟨hx, hb, hr, hlk, hml, hown, hts, hnm⟩ := id hC
  have hl : lv_has ls 5 [(0, .ref x0), (1, .int x1), (2, .ref x2), (3, .int x3), (4, .null)] := hl
  unfold f_J16_multiplyToLen at h
  have hS0 := hS
  obtain ⟨A, eA⟩ : ∃ A : Array Value, A = [.ref x0, .int x1, .ref x2, .int x3, .null].toArray := ⟨_, rfl⟩
  rw [← eA] at hC hts ⊢
  obtain ⟨Q, eQ⟩ : ∃ Q : State → Prop, Q = MQ below (TQ D (pR (fun H b H' => aI D b r.1 r.2 H' ∧ r.1 ≤ 1000000 ∧ H.size ≤ b ∧ Off (fun _ => False) H H'))) A s 1 12 (fun q => dB D ≤ q) := ⟨_, rfl⟩
  have hF : Off (fun _ => False) s.heap s.heap := Off.rf
  show W p l e R_J16_multiplyToLen s m A below meth c s.heap [] 0 0 _ _
  rw [← eQ]
  obtain ⟨H, eH⟩ : ∃ H : Heap, H = s.heap := ⟨_, rfl⟩
  obtain ⟨locs, eLc⟩ : ∃ L : List Loc, L = [] := ⟨_, rfl⟩
  have lt_h_x0 := h_x0.lt
  have lt_h_x2 := h_x2.lt
  rw [← eH, ← eLc]
  have hF : Off (fun _ => False) s.heap H := by rw [eH]; exact hF
  rw [← eH] at h_x0
  rw [← eH] at h_x2
  have hS : St D s H locs := by rw [eH, eLc]; exact hS
  refine lv_aload_n hx hb dJ16_multiplyToLen_0 rfl (lv_at hl 0 rfl) ?_
  refine lv_iload_n hx hb dJ16_multiplyToLen_1 rfl (lv_at hl 1 rfl) ?_
  obtain ⟨o1, eo1, h⟩ := bind_step h
  refine r_cpv (r_runS (rest := []) (As := [.ref x0, .int x1]) hC 2 (m_J16_multiplyToLenCheck x0  x0n x0c x1 o1 eo1) q863 q864 q57 q865 hd_J16_multiplyToLenCheck rfl ⟨Nat.le_of_ble_eq_true rfl, Nat.le_of_ble_eq_true rfl⟩ hS ⟨h_x0, l_x0⟩ hl.1 rfl (Nat.le_of_ble_eq_true rfl) dJ16_multiplyToLen_2 ⟨Nat.le_of_ble_eq_true rfl, Nat.le_of_ble_eq_true rfl⟩) ?_
  refine lv_aload_n hx hb dJ16_multiplyToLen_5 rfl (lv_at hl 2 rfl) ?_
  refine lv_iload_n hx hb dJ16_multiplyToLen_6 rfl (lv_at hl 3 rfl) ?_
  obtain ⟨o2, eo2, h⟩ := bind_step h
  refine r_cpv (r_runS (rest := []) (As := [.ref x2, .int x3]) hC 2 (m_J16_multiplyToLenCheck x2  x2n x2c x3 o2 eo2) q863 q864 q57 q865 hd_J16_multiplyToLenCheck rfl ⟨Nat.le_of_ble_eq_true rfl, Nat.le_of_ble_eq_true rfl⟩ hS ⟨h_x2, l_x2⟩ hl.1 rfl (Nat.le_of_ble_eq_true rfl) dJ16_multiplyToLen_7 ⟨Nat.le_of_ble_eq_true rfl, Nat.le_of_ble_eq_true rfl⟩) ?_
  refine lv_aload_n hx hb dJ16_multiplyToLen_10 rfl (lv_at hl 0 rfl) ?_
  refine lv_iload_n hx hb dJ16_multiplyToLen_11 rfl (lv_at hl 1 rfl) ?_
  refine lv_aload_n hx hb dJ16_multiplyToLen_12 rfl (lv_at hl 2 rfl) ?_
  refine lv_iload_n hx hb dJ16_multiplyToLen_13 rfl (lv_at hl 3 rfl) ?_
  refine lv_aloadN hx hb dJ16_multiplyToLen_14 (lv_at hl 4 rfl) ?_
  obtain ⟨o3, eo3, h⟩ := bind_step h
  refine r_cr (r_runS (rest := []) (As := [.ref x0, .int x1, .ref x2, .int x3, .null]) hC 5 (m_J16_implMultiplyToLen x0 x2  x0n x0c x1 x2n x2c x3 o3 eo3) q879 q880 q57 q881 hd_J16_implMultiplyToLen rfl ⟨Nat.le_of_ble_eq_true rfl, Nat.le_of_ble_eq_true rfl⟩ hS ⟨h_x0, l_x0, h_x2, l_x2⟩ hl.1 rfl (Nat.le_of_ble_eq_true rfl) dJ16_multiplyToLen_16 ⟨Nat.le_of_ble_eq_true rfl, Nat.le_of_ble_eq_true rfl⟩) hS (fun ad4 H locs hp hS hz => ?_)
  obtain ⟨had4, lo3_1, frad4, hO⟩ := hp
  have ne_h_x0_had4 : x0 ≠ ad4 := Nat.ne_of_lt (Nat.lt_of_lt_of_le h_x0.lt frad4)
  have ne_h_x2_had4 : x2 ≠ ad4 := Nat.ne_of_lt (Nat.lt_of_lt_of_le h_x2.lt frad4)
  have gad4 : s.heap.size ≤ ad4 := Nat.le_trans hF.1 frad4
  have hB_had4 : dB D ≤ ad4 := by have := hS0.1.2.2.1; omega
  have h_x0 := h_x0.ext hO
  have h_x2 := h_x2.ext hO
  have hF := hF.trans (hO.mono (fun _ _ z => z.elim))
  obtain rfl := Option.some.inj h
  rw [eQ]
  exact r_aret hx hb hr (Or.inr ⟨_, rfl⟩) hlk hS (Nat.le_of_ble_eq_true rfl) (Nat.le_of_ble_eq_true rfl) dJ16_multiplyToLen_19 ⟨_, rfl, had4, lo3_1, gad4, hF⟩

abbrev R_J16_multiply_2 : Room := { frames := 4, cells := 3, slots := 30, locals := 106 }
noncomputable def f_J16_multiply_2 (x0f0 : Int32) (x0r1n : Nat) (x0r1c : Nat → Int32) (x1f0 : Int32) (x1r1n : Nat) (x1r1c : Nat → Int32) (x2 : Bool) (x3 : Bool) (x4 : Int32) : Option (Int32 × Nat × (Nat → Int32)) :=
  (if x1f0 = 0 then
    some (0, 0, (fun _ => 0))
  else
    (if x0f0 = 0 then
      some (0, 0, (fun _ => 0))
    else
      lt (fun (_u : Unit) =>
      lt (fun (_u : Unit) =>
      lt (fun (v6 : Int32) =>
      (if (nI x1r1n) = 1 then
        none
      else
        (if (nI x0r1n) = 1 then
          none
        else
          Option.bind (f_J16_multiplyToLen x0r1n x0r1c (nI x0r1n) x1r1n x1r1c (nI x1r1n)) fun o10 =>
          Option.bind (f_J16_trustedStripLeadingZeroInts o10.1 o10.2) fun o12 =>
          Option.bind (f_J16_init_2 o12.1 o12.2 v6) fun o15 =>
          some (o15, o12.1, o12.2)
        )
      )
      ) fun K7 =>
      (if x0f0 = x1f0 then
        K7 1
      else
        K7 (-1)
      )
      ) fun K5 =>
      (if (nI x0r1n) < 80 then
        K5 ()
      else
        (if 80 ≤ (nI x1r1n) then
          none
        else
          K5 ()
        )
      )
      ) fun K4 =>
      (if (nI x0r1n) ≤ 20 then
        K4 ()
      else
        none
      )
    )
  )
theorem hd_J16_multiply_2 : Hd yJ16_multiply_2 4 := by unfold Hd; decide +kernel
set_option maxHeartbeats 4000000 in
set_option maxRecDepth 100000 in
theorem m_J16_multiply_2 {l : Launch} {D : DD} (x0 : Nat) (x0r1 : Nat) (x1 : Nat) (x1r1 : Nat) (x0e2 : Int32) (x0e3 : Int32) (x0e4 : Int32) (x0e5 : Int32) (x1e2 : Int32) (x1e3 : Int32) (x1e4 : Int32) (x1e5 : Int32) (x0f0 : Int32) (x0r1n : Nat) (x0r1c : Nat → Int32) (x1f0 : Int32) (x1r1n : Nat) (x1r1c : Nat → Int32) (x2 : Bool) (x3 : Bool) (x4 : Int32) (r : Int32 × Nat × (Nat → Int32)) (h : f_J16_multiply_2 x0f0 x0r1n x0r1c x1f0 x1r1n x1r1c x2 x3 x4 = some r) : MT l D yJ16_multiply_2 cJ16_multiply_2 9 (some (.object "java/math/BigInteger")) 4 106 3 30 [.ref x0, .ref x1, .int (bI x2), .int (bI x3), .int x4] (fun H => OA D 2 x0 [.int x0f0, .ref x0r1, .int x0e2, .int x0e3, .int x0e4, .int x0e5] H ∧ aI D x0r1 x0r1n x0r1c H ∧ x0r1n ≤ 1000000 ∧ OA D 2 x1 [.int x1f0, .ref x1r1, .int x1e2, .int x1e3, .int x1e4, .int x1e5] H ∧ aI D x1r1 x1r1n x1r1c H ∧ x1r1n ≤ 1000000) (pR (fun H b H' => ∃ b_1 : Nat, ∃ b_2 b_3 b_4 b_5 : Int32, OA D 2 b [.int r.1, .ref b_1, .int b_2, .int b_3, .int b_4, .int b_5] H' ∧ aI D b_1 r.2.1 r.2.2 H' ∧ r.2.1 ≤ 1000000 ∧ Off (fun _ => False) H H')) := by
  refine MT.start (by decide +kernel) (Nat.le_of_ble_eq_true rfl) ?_
  intro p e s m below meth c ls hC hS hp hl
  obtain ⟨h_x0, h_x0r1, l_x0r1, h_x1, h_x1r1, l_x1r1⟩ := hp
  obtain ⟨hx, hb, hr, hlk, hml, hown, hts, hnm⟩ := id hC
  have hl : lv_has ls 9 [(0, .ref x0), (1, .ref x1), (2, .int (bI x2)), (3, .int (bI x3)), (4, .int x4)] := hl
  unfold f_J16_multiply_2 at h
  have hS0 := hS
  obtain ⟨A, eA⟩ : ∃ A : Array Value, A = [.ref x0, .ref x1, .int (bI x2), .int (bI x3), .int x4].toArray := ⟨_, rfl⟩
  rw [← eA] at hC hts ⊢
  obtain ⟨Q, eQ⟩ : ∃ Q : State → Prop, Q = MQ below (TQ D (pR (fun H b H' => ∃ b_1 : Nat, ∃ b_2 b_3 b_4 b_5 : Int32, OA D 2 b [.int r.1, .ref b_1, .int b_2, .int b_3, .int b_4, .int b_5] H' ∧ aI D b_1 r.2.1 r.2.2 H' ∧ r.2.1 ≤ 1000000 ∧ Off (fun _ => False) H H'))) A s 3 30 (fun q => dB D ≤ q) := ⟨_, rfl⟩
  have hF : Off (fun _ => False) s.heap s.heap := Off.rf
  show W p l e R_J16_multiply_2 s m A below meth c s.heap [] 0 0 _ _
  rw [← eQ]
  obtain ⟨H, eH⟩ : ∃ H : Heap, H = s.heap := ⟨_, rfl⟩
  obtain ⟨locs, eLc⟩ : ∃ L : List Loc, L = [] := ⟨_, rfl⟩
  have lt_h_x0 := h_x0.lt
  have lt_h_x0r1 := h_x0r1.lt
  have lt_h_x1 := h_x1.lt
  have lt_h_x1r1 := h_x1r1.lt
  rw [← eH, ← eLc]
  have hF : Off (fun _ => False) s.heap H := by rw [eH]; exact hF
  rw [← eH] at h_x0
  rw [← eH] at h_x0r1
  rw [← eH] at h_x1
  rw [← eH] at h_x1r1
  have hS : St D s H locs := by rw [eH, eLc]; exact hS
  refine lv_aload_n hx hb dJ16_multiply_2_0 rfl (lv_at hl 1 rfl) ?_
  refine r_get hx hb hts hown hS h_x1 rfl in_J16 0 (by decide) q435 rfl (v := .int x1f0) rfl dJ16_multiply_2_1 ?_
  refine lv_if_eq (tgt := 14) hx hb dJ16_multiply_2_4 (by decide) (fun c1 => ?_) (fun c1 => ?_)
  · have h := it_pos h c1
    refine r_gets hx hb hts hown hS 14 rfl q418 dJ16_multiply_2_14 ?_
    obtain ⟨ay2, by2, cy2, dy2, zy2⟩ := hS0.1.1.2.2.2.2.1.2.1
    obtain ⟨fy2, wy2⟩ := hS0.1.1.2.2.2.2.1.2.2.1
    have wy2 : aI D (dN D 15) 0 (fun _ => 0) D.1.heap := RA.congr wy2 (fun j hj => absurd hj (Nat.not_lt_zero j))
    obtain rfl := Option.some.inj h
    rw [eQ]
    exact r_aret hx hb hr (Or.inl ⟨_, rfl⟩) hlk hS (Nat.le_of_ble_eq_true rfl) (Nat.le_of_ble_eq_true rfl) dJ16_multiply_2_17 ⟨_, rfl, (dN D 15), ay2, by2, cy2, dy2, (hS.1.OA zy2), (hS.1.RA wy2), (Nat.le_of_ble_eq_true rfl), hF⟩
  · have h := it_neg h c1
    refine lv_aload_n hx hb dJ16_multiply_2_7 rfl (lv_at hl 0 rfl) ?_
    refine r_get hx hb hts hown hS h_x0 rfl in_J16 0 (by decide) q435 rfl (v := .int x0f0) rfl dJ16_multiply_2_8 ?_
    refine lv_if_ne (tgt := 18) hx hb dJ16_multiply_2_11 (by decide) (fun c3 => ?_) (fun c3 => ?_)
    · have h := it_neg h c3
      refine lv_aload_n hx hb dJ16_multiply_2_18 rfl (lv_at hl 0 rfl) ?_
      refine r_get hx hb hts hown hS h_x0 rfl in_J16 1 (by decide) q436 rfl (v := .ref x0r1) rfl dJ16_multiply_2_19 ?_
      refine r_alen hx hb hS h_x0r1 dJ16_multiply_2_22 ?_
      refine lv_istore (lv' := [(5, .int (nI x0r1n)), (0, .ref x0), (1, .ref x1), (2, .int (bI x2)), (3, .int (bI x3)), (4, .int x4)]) hx hb dJ16_multiply_2_23 hl (by decide) rfl (fun ls hl => ?_)
      refine lv_aload_n hx hb dJ16_multiply_2_25 rfl (lv_at hl 2 rfl) ?_
      refine lv_aload_n hx hb dJ16_multiply_2_26 rfl (lv_at hl 1 rfl) ?_
      obtain ⟨K4, eK4, h⟩ := lt_step h
      have HK4 : ∀  (h : K4 () = some r) (H : Heap) (locs : List Loc) (hS : St D s H locs) (hF : Off (fun _ => False) s.heap H) (h_x0 : OA D 2 x0 [.int x0f0, .ref x0r1, .int x0e2, .int x0e3, .int x0e4, .int x0e5] H) (h_x0r1 : aI D x0r1 x0r1n x0r1c H) (h_x1 : OA D 2 x1 [.int x1f0, .ref x1r1, .int x1e2, .int x1e3, .int x1e4, .int x1e5] H) (h_x1r1 : aI D x1r1 x1r1n x1r1c H) (ls : Array Slot) (hl : lv_has ls 9 [(0, .ref x0), (1, .ref x1), (5, .int (nI x0r1n))]), W p l e R_J16_multiply_2 s m A below meth c H locs 0 0 Q (F0 m 46 ls []) := by
        intro h H locs hS hF h_x0 h_x0r1 h_x1 h_x1r1 ls hl
        subst eK4
        refine lv_aload_n hx hb dJ16_multiply_2_46 rfl (lv_at hl 1 rfl) ?_
        refine r_get hx hb hts hown hS h_x1 rfl in_J16 1 (by decide) q436 rfl (v := .ref x1r1) rfl dJ16_multiply_2_47 ?_
        refine r_alen hx hb hS h_x1r1 dJ16_multiply_2_50 ?_
        refine lv_istore (lv' := [(6, .int (nI x1r1n)), (0, .ref x0), (1, .ref x1), (5, .int (nI x0r1n))]) hx hb dJ16_multiply_2_51 hl (by decide) rfl (fun ls hl => ?_)
        refine lv_iload hx hb dJ16_multiply_2_53 (lv_at hl 3 rfl) ?_
        refine lv_bipush (v := 80) hx hb dJ16_multiply_2_55 (by decide) ?_
        obtain ⟨K5, eK5, h⟩ := lt_step h
        have HK5 : ∀  (h : K5 () = some r) (H : Heap) (locs : List Loc) (hS : St D s H locs) (hF : Off (fun _ => False) s.heap H) (h_x0 : OA D 2 x0 [.int x0f0, .ref x0r1, .int x0e2, .int x0e3, .int x0e4, .int x0e5] H) (h_x0r1 : aI D x0r1 x0r1n x0r1c H) (h_x1 : OA D 2 x1 [.int x1f0, .ref x1r1, .int x1e2, .int x1e3, .int x1e4, .int x1e5] H) (h_x1r1 : aI D x1r1 x1r1n x1r1c H) (ls : Array Slot) (hl : lv_has ls 9 [(0, .ref x0), (1, .ref x1), (5, .int (nI x0r1n)), (6, .int (nI x1r1n))]), W p l e R_J16_multiply_2 s m A below meth c H locs 0 0 Q (F0 m 67 ls []) := by
          intro h H locs hS hF h_x0 h_x0r1 h_x1 h_x1r1 ls hl
          subst eK5
          refine lv_aload_n hx hb dJ16_multiply_2_67 rfl (lv_at hl 0 rfl) ?_
          refine r_get hx hb hts hown hS h_x0 rfl in_J16 0 (by decide) q435 rfl (v := .int x0f0) rfl dJ16_multiply_2_68 ?_
          refine lv_aload_n hx hb dJ16_multiply_2_71 rfl (lv_at hl 1 rfl) ?_
          refine r_get hx hb hts hown hS h_x1 rfl in_J16 0 (by decide) q435 rfl (v := .int x1f0) rfl dJ16_multiply_2_72 ?_
          obtain ⟨K7, eK7, h⟩ := lt_step h
          have HK7 : ∀ (v6 : Int32) (h : K7 v6 = some r) (H : Heap) (locs : List Loc) (hS : St D s H locs) (hF : Off (fun _ => False) s.heap H) (h_x0 : OA D 2 x0 [.int x0f0, .ref x0r1, .int x0e2, .int x0e3, .int x0e4, .int x0e5] H) (h_x0r1 : aI D x0r1 x0r1n x0r1c H) (h_x1 : OA D 2 x1 [.int x1f0, .ref x1r1, .int x1e2, .int x1e3, .int x1e4, .int x1e5] H) (h_x1r1 : aI D x1r1 x1r1n x1r1c H) (ls : Array Slot) (hl : lv_has ls 9 [(0, .ref x0), (1, .ref x1), (5, .int (nI x0r1n)), (6, .int (nI x1r1n))]), W p l e R_J16_multiply_2 s m A below meth c H locs 0 0 Q (F0 m 83 ls [.int v6]) := by
            intro v6 h H locs hS hF h_x0 h_x0r1 h_x1 h_x1r1 ls hl
            subst eK7
            refine lv_istore (lv' := [(7, .int v6), (0, .ref x0), (1, .ref x1), (5, .int (nI x0r1n)), (6, .int (nI x1r1n))]) hx hb dJ16_multiply_2_83 hl (by decide) rfl (fun ls hl => ?_)
            refine lv_aload_n hx hb dJ16_multiply_2_85 rfl (lv_at hl 2 rfl) ?_
            refine r_get hx hb hts hown hS h_x1 rfl in_J16 1 (by decide) q436 rfl (v := .ref x1r1) rfl dJ16_multiply_2_86 ?_
            refine r_alen hx hb hS h_x1r1 dJ16_multiply_2_89 ?_
            refine lv_iconst (v := 1) hx hb dJ16_multiply_2_90 (by decide) ?_
            refine lv_icmp_ne (tgt := 110) hx hb dJ16_multiply_2_91 (by decide) (fun c8 => ?_) (fun c8 => ?_)
            · have h := it_neg h c8
              refine lv_aload_n hx hb dJ16_multiply_2_110 rfl (lv_at hl 1 rfl) ?_
              refine r_get hx hb hts hown hS h_x0 rfl in_J16 1 (by decide) q436 rfl (v := .ref x0r1) rfl dJ16_multiply_2_111 ?_
              refine r_alen hx hb hS h_x0r1 dJ16_multiply_2_114 ?_
              refine lv_iconst (v := 1) hx hb dJ16_multiply_2_115 (by decide) ?_
              refine lv_icmp_ne (tgt := 135) hx hb dJ16_multiply_2_116 (by decide) (fun c9 => ?_) (fun c9 => ?_)
              · have h := it_neg h c9
                refine lv_aload_n hx hb dJ16_multiply_2_135 rfl (lv_at hl 1 rfl) ?_
                refine r_get hx hb hts hown hS h_x0 rfl in_J16 1 (by decide) q436 rfl (v := .ref x0r1) rfl dJ16_multiply_2_136 ?_
                refine lv_iload hx hb dJ16_multiply_2_139 (lv_at hl 3 rfl) ?_
                refine lv_aload_n hx hb dJ16_multiply_2_141 rfl (lv_at hl 2 rfl) ?_
                refine r_get hx hb hts hown hS h_x1 rfl in_J16 1 (by decide) q436 rfl (v := .ref x1r1) rfl dJ16_multiply_2_142 ?_
                refine lv_iload hx hb dJ16_multiply_2_145 (lv_at hl 4 rfl) ?_
                refine lv_null hx hb dJ16_multiply_2_147 ?_
                obtain ⟨o10, eo10, h⟩ := bind_step h
                refine r_cr (r_runS (rest := []) (As := [.ref x0r1, .int (nI x0r1n), .ref x1r1, .int (nI x1r1n), .null]) hC 5 (m_J16_multiplyToLen x0r1 x1r1  x0r1n x0r1c (nI x0r1n) x1r1n x1r1c (nI x1r1n) o10 eo10) q860 q861 q57 q862 hd_J16_multiplyToLen rfl ⟨Nat.le_of_ble_eq_true rfl, Nat.le_of_ble_eq_true rfl⟩ hS ⟨h_x0r1, l_x0r1, h_x1r1, l_x1r1⟩ hl.1 rfl (Nat.le_of_ble_eq_true rfl) dJ16_multiply_2_148 ⟨Nat.le_of_ble_eq_true rfl, Nat.le_of_ble_eq_true rfl⟩) hS (fun ad11 H locs hp hS hz => ?_)
                obtain ⟨had11, lo10_1, frad11, hO⟩ := hp
                have ne_h_x0_had11 : x0 ≠ ad11 := Nat.ne_of_lt (Nat.lt_of_lt_of_le h_x0.lt frad11)
                have ne_h_x0r1_had11 : x0r1 ≠ ad11 := Nat.ne_of_lt (Nat.lt_of_lt_of_le h_x0r1.lt frad11)
                have ne_h_x1_had11 : x1 ≠ ad11 := Nat.ne_of_lt (Nat.lt_of_lt_of_le h_x1.lt frad11)
                have ne_h_x1r1_had11 : x1r1 ≠ ad11 := Nat.ne_of_lt (Nat.lt_of_lt_of_le h_x1r1.lt frad11)
                have gad11 : s.heap.size ≤ ad11 := Nat.le_trans hF.1 frad11
                have hB_had11 : dB D ≤ ad11 := by have := hS0.1.2.2.1; omega
                have h_x0 := h_x0.ext hO
                have h_x0r1 := h_x0r1.ext hO
                have h_x1 := h_x1.ext hO
                have h_x1r1 := h_x1r1.ext hO
                have hF := hF.trans (hO.mono (fun _ _ z => z.elim))
                refine lv_astore (lv' := [(8, .ref ad11), (7, .int v6), (0, .ref x0), (1, .ref x1), (5, .int (nI x0r1n)), (6, .int (nI x1r1n))]) hx hb dJ16_multiply_2_151 hl (by decide) rfl (fun ls hl => ?_)
                refine lv_aload hx hb dJ16_multiply_2_153 (lv_at hl 0 rfl) ?_
                obtain ⟨o12, eo12, h⟩ := bind_step h
                refine r_cr (r_runS (rest := []) (As := [.ref ad11]) hC 1 (m_J16_trustedStripLeadingZeroInts ad11  o10.1 o10.2 o12 eo12) q795 q796 q57 q797 hd_J16_trustedStripLeadingZeroInts rfl ⟨Nat.le_of_ble_eq_true rfl, Nat.le_of_ble_eq_true rfl⟩ hS ⟨had11, lo10_1⟩ hl.1 rfl (Nat.le_of_ble_eq_true rfl) dJ16_multiply_2_155 ⟨Nat.le_of_ble_eq_true rfl, Nat.le_of_ble_eq_true rfl⟩) hS (fun ad13 H locs hp hS hz => ?_)
                obtain ⟨had13, lo12_1, hO⟩ := hp
                have h_x0 := h_x0.ext hO
                have h_x0r1 := h_x0r1.ext hO
                have h_x1 := h_x1.ext hO
                have h_x1r1 := h_x1r1.ext hO
                have had11 := had11.ext hO
                have hF := hF.trans (hO.mono (fun _ _ z => z.elim))
                refine lv_astore (lv' := [(8, .ref ad13), (7, .int v6), (0, .ref x0), (1, .ref x1), (5, .int (nI x0r1n)), (6, .int (nI x1r1n))]) hx hb dJ16_multiply_2_158 hl (by decide) rfl (fun ls hl => ?_)
                refine r_new (k := 2) hx hb hts hown hS rfl in_J16 tyJ16 tyJ16_ok q426 q427 q57 (fs := [.int 0, .null, .int 0, .int 0, .int 0, .int 0]) rfl (by decide) (Nat.le_of_ble_eq_true rfl) (Nat.le_of_ble_eq_true rfl) dJ16_multiply_2_160 (fun ad14 H eq_ad14 hS hE had14 z_ad14 hB_had14 => ?_)
                have gad14 : s.heap.size ≤ ad14 := by have := hF.1; omega
                have ne_h_x0_had14 : x0 ≠ ad14 := by have := h_x0.lt; omega
                have h_x0 := h_x0.ext hE
                have ne_h_x0r1_had14 : x0r1 ≠ ad14 := by have := h_x0r1.lt; omega
                have h_x0r1 := h_x0r1.ext hE
                have ne_h_x1_had14 : x1 ≠ ad14 := by have := h_x1.lt; omega
                have h_x1 := h_x1.ext hE
                have ne_h_x1r1_had14 : x1r1 ≠ ad14 := by have := h_x1r1.lt; omega
                have h_x1r1 := h_x1r1.ext hE
                have ne_had11_had14 : ad11 ≠ ad14 := by have := had11.lt; omega
                have had11 := had11.ext hE
                have ne_had13_had14 : ad13 ≠ ad14 := by have := had13.lt; omega
                have had13 := had13.ext hE
                have hF := hF.trans (hE.mono (fun _ _ z => z.elim))
                refine lv_dup hx hb dJ16_multiply_2_163 rfl ?_
                refine lv_aload hx hb dJ16_multiply_2_164 (lv_at hl 0 rfl) ?_
                refine lv_iload hx hb dJ16_multiply_2_166 (lv_at hl 1 rfl) ?_
                obtain ⟨o15, eo15, h⟩ := bind_step h
                refine r_cv (r_runI (rest := [.ref ad14]) (As := [.ref ad13, .int v6]) hC 2 (m_J16_init_2 ad14 ad13  o12.1 o12.2 v6 o15 eo15) q473 q474 q57 q475 rfl hd_J16_init_2 rfl ⟨Nat.le_of_ble_eq_true rfl, Nat.le_of_ble_eq_true rfl⟩ hS ⟨had14, hB_had14, had13, lo12_1, (Ne.symm ne_had13_had14)⟩ hl.1 rfl (Nat.le_of_ble_eq_true rfl) dJ16_multiply_2_168 ⟨Nat.le_of_ble_eq_true rfl, Nat.le_of_ble_eq_true rfl⟩) hS (fun H locs hp hS hz => ?_)
                obtain ⟨had14, hO⟩ := hp
                have h_x0 := h_x0.off hO ne_h_x0_had14
                have h_x0r1 := h_x0r1.off hO ne_h_x0r1_had14
                have h_x1 := h_x1.off hO ne_h_x1_had14
                have h_x1r1 := h_x1r1.off hO ne_h_x1r1_had14
                have had11 := had11.off hO ne_had11_had14
                have had13 := had13.off hO ne_had13_had14
                have hF := hF.fresh hO (fun a ha z => absurd (z ▸ ha) (Nat.not_lt.mpr gad14))
                obtain rfl := Option.some.inj h
                rw [eQ]
                exact r_aret hx hb hr (Or.inl ⟨_, rfl⟩) hlk hS (Nat.le_of_ble_eq_true rfl) (Nat.le_of_ble_eq_true rfl) dJ16_multiply_2_171 ⟨_, rfl, ad13, 0, 0, 0, 0, had14.OA, had13, lo12_1, hF⟩
              · have h := it_pos h c9
                cases h
            · have h := it_pos h c8
              cases h
          clear eK7
          refine lv_icmp_ne (tgt := 82) hx hb dJ16_multiply_2_75 (by decide) (fun c16 => ?_) (fun c16 => ?_)
          · have h := it_neg h c16
            refine lv_iconst (v := (-1)) hx hb dJ16_multiply_2_82 (by decide) ?_
            exact HK7 (-1) h H locs hS hF h_x0 h_x0r1 h_x1 h_x1r1 ls (lv_sub hl [0, 1, 2, 3] rfl)
          · have h := it_pos h c16
            refine lv_iconst (v := 1) hx hb dJ16_multiply_2_78 (by decide) ?_
            refine lv_goto (tgt := 83) hx hb dJ16_multiply_2_79 (by decide) ?_
            exact HK7 1 h H locs hS hF h_x0 h_x0r1 h_x1 h_x1r1 ls (lv_sub hl [0, 1, 2, 3] rfl)
        clear eK5
        refine lv_icmp_lt (tgt := 67) hx hb dJ16_multiply_2_57 (by decide) (fun c17 => ?_) (fun c17 => ?_)
        · have h := it_pos h c17
          exact HK5  h H locs hS hF h_x0 h_x0r1 h_x1 h_x1r1 ls (lv_sub hl [1, 2, 3, 0] rfl)
        · have h := it_neg h c17
          refine lv_iload hx hb dJ16_multiply_2_60 (lv_at hl 0 rfl) ?_
          refine lv_bipush (v := 80) hx hb dJ16_multiply_2_62 (by decide) ?_
          refine lv_icmp_ge (tgt := 172) hx hb dJ16_multiply_2_64 (by decide) (fun c18 => ?_) (fun c18 => ?_)
          · have h := it_pos h c18
            cases h
          · have h := it_neg h c18
            exact HK5  h H locs hS hF h_x0 h_x0r1 h_x1 h_x1r1 ls (lv_sub hl [1, 2, 3, 0] rfl)
      clear eK4
      refine lv_acmp_ne (rx := (some x1)) (ry := (some x0)) (tgt := 46) hx hb dJ16_multiply_2_27 (by decide) (fun c19 => ?_) (fun c19 => ?_)
      · by_cases k21 : (nI x0r1n) ≤ 20
        · have h := it_pos h k21
          exact HK4  h H locs hS hF h_x0 h_x0r1 h_x1 h_x1r1 ls (lv_sub hl [1, 2, 0] rfl)
        · have h := it_neg h k21
          cases h
      · refine lv_iload hx hb dJ16_multiply_2_30 (lv_at hl 0 rfl) ?_
        refine lv_bipush (v := 20) hx hb dJ16_multiply_2_32 (by decide) ?_
        refine lv_icmp_le (tgt := 46) hx hb dJ16_multiply_2_34 (by decide) (fun c20 => ?_) (fun c20 => ?_)
        · have h := it_pos h c20
          exact HK4  h H locs hS hF h_x0 h_x0r1 h_x1 h_x1r1 ls (lv_sub hl [1, 2, 0] rfl)
        · have h := it_neg h c20
          cases h
    · have h := it_pos h c3
      refine r_gets hx hb hts hown hS 14 rfl q418 dJ16_multiply_2_14 ?_
      obtain ⟨ay22, by22, cy22, dy22, zy22⟩ := hS0.1.1.2.2.2.2.1.2.1
      obtain ⟨fy22, wy22⟩ := hS0.1.1.2.2.2.2.1.2.2.1
      have wy22 : aI D (dN D 15) 0 (fun _ => 0) D.1.heap := RA.congr wy22 (fun j hj => absurd hj (Nat.not_lt_zero j))
      obtain rfl := Option.some.inj h
      rw [eQ]
      exact r_aret hx hb hr (Or.inl ⟨_, rfl⟩) hlk hS (Nat.le_of_ble_eq_true rfl) (Nat.le_of_ble_eq_true rfl) dJ16_multiply_2_17 ⟨_, rfl, (dN D 15), ay22, by22, cy22, dy22, (hS.1.OA zy22), (hS.1.RA wy22), (Nat.le_of_ble_eq_true rfl), hF⟩

abbrev R_J16_multiply : Room := { frames := 5, cells := 3, slots := 30, locals := 134 }
noncomputable def f_J16_multiply (x0f0 : Int32) (x0r1n : Nat) (x0r1c : Nat → Int32) (x1f0 : Int32) (x1r1n : Nat) (x1r1c : Nat → Int32) : Option (Int32 × Nat × (Nat → Int32)) :=
  Option.bind (f_J16_multiply_2 x0f0 x0r1n x0r1c x1f0 x1r1n x1r1c false false 0) fun o1 =>
  some (o1.1, o1.2.1, o1.2.2)
theorem hd_J16_multiply : Hd yJ16_multiply 1 := by unfold Hd; decide +kernel
set_option maxHeartbeats 4000000 in
set_option maxRecDepth 100000 in
theorem m_J16_multiply {l : Launch} {D : DD} (x0 : Nat) (x0r1 : Nat) (x1 : Nat) (x1r1 : Nat) (x0e2 : Int32) (x0e3 : Int32) (x0e4 : Int32) (x0e5 : Int32) (x1e2 : Int32) (x1e3 : Int32) (x1e4 : Int32) (x1e5 : Int32) (x0f0 : Int32) (x0r1n : Nat) (x0r1c : Nat → Int32) (x1f0 : Int32) (x1r1n : Nat) (x1r1c : Nat → Int32) (r : Int32 × Nat × (Nat → Int32)) (h : f_J16_multiply x0f0 x0r1n x0r1c x1f0 x1r1n x1r1c = some r) : MT l D yJ16_multiply cJ16_multiply 2 (some (.object "java/math/BigInteger")) 5 134 3 30 [.ref x0, .ref x1] (fun H => OA D 2 x0 [.int x0f0, .ref x0r1, .int x0e2, .int x0e3, .int x0e4, .int x0e5] H ∧ aI D x0r1 x0r1n x0r1c H ∧ x0r1n ≤ 1000000 ∧ OA D 2 x1 [.int x1f0, .ref x1r1, .int x1e2, .int x1e3, .int x1e4, .int x1e5] H ∧ aI D x1r1 x1r1n x1r1c H ∧ x1r1n ≤ 1000000) (pR (fun H b H' => ∃ b_1 : Nat, ∃ b_2 b_3 b_4 b_5 : Int32, OA D 2 b [.int r.1, .ref b_1, .int b_2, .int b_3, .int b_4, .int b_5] H' ∧ aI D b_1 r.2.1 r.2.2 H' ∧ r.2.1 ≤ 1000000 ∧ Off (fun _ => False) H H')) := by
  refine MT.start (by decide +kernel) (Nat.le_of_ble_eq_true rfl) ?_
  intro p e s m below meth c ls hC hS hp hl
  obtain ⟨h_x0, h_x0r1, l_x0r1, h_x1, h_x1r1, l_x1r1⟩ := hp
  obtain ⟨hx, hb, hr, hlk, hml, hown, hts, hnm⟩ := id hC
  have hl : lv_has ls 2 [(0, .ref x0), (1, .ref x1)] := hl
  unfold f_J16_multiply at h
  have hS0 := hS
  obtain ⟨A, eA⟩ : ∃ A : Array Value, A = [.ref x0, .ref x1].toArray := ⟨_, rfl⟩
  rw [← eA] at hC hts ⊢
  obtain ⟨Q, eQ⟩ : ∃ Q : State → Prop, Q = MQ below (TQ D (pR (fun H b H' => ∃ b_1 : Nat, ∃ b_2 b_3 b_4 b_5 : Int32, OA D 2 b [.int r.1, .ref b_1, .int b_2, .int b_3, .int b_4, .int b_5] H' ∧ aI D b_1 r.2.1 r.2.2 H' ∧ r.2.1 ≤ 1000000 ∧ Off (fun _ => False) H H'))) A s 3 30 (fun q => dB D ≤ q) := ⟨_, rfl⟩
  have hF : Off (fun _ => False) s.heap s.heap := Off.rf
  show W p l e R_J16_multiply s m A below meth c s.heap [] 0 0 _ _
  rw [← eQ]
  obtain ⟨H, eH⟩ : ∃ H : Heap, H = s.heap := ⟨_, rfl⟩
  obtain ⟨locs, eLc⟩ : ∃ L : List Loc, L = [] := ⟨_, rfl⟩
  have lt_h_x0 := h_x0.lt
  have lt_h_x0r1 := h_x0r1.lt
  have lt_h_x1 := h_x1.lt
  have lt_h_x1r1 := h_x1r1.lt
  rw [← eH, ← eLc]
  have hF : Off (fun _ => False) s.heap H := by rw [eH]; exact hF
  rw [← eH] at h_x0
  rw [← eH] at h_x0r1
  rw [← eH] at h_x1
  rw [← eH] at h_x1r1
  have hS : St D s H locs := by rw [eH, eLc]; exact hS
  refine lv_aload_n hx hb dJ16_multiply_0 rfl (lv_at hl 0 rfl) ?_
  refine lv_aload_n hx hb dJ16_multiply_1 rfl (lv_at hl 1 rfl) ?_
  refine lv_iconst (v := 0) hx hb dJ16_multiply_2 (by decide) ?_
  refine lv_iconst (v := 0) hx hb dJ16_multiply_3 (by decide) ?_
  refine lv_iconst (v := 0) hx hb dJ16_multiply_4 (by decide) ?_
  obtain ⟨o1, eo1, h⟩ := bind_step h
  refine r_cr (r_runV (rest := []) (As := [.ref x1, .int 0, .int 0, .int 0]) hC 4 (m_J16_multiply_2 x0 x0r1 x1 x1r1 x0e2 x0e3 x0e4 x0e5 x1e2 x1e3 x1e4 x1e5 x0f0 x0r1n x0r1c x1f0 x1r1n x1r1c false false 0 o1 eo1) q511 q513 qs3 q57 q514 (OA.recv hS h_x0 (C := RJ16) rfl) hd_J16_multiply_2 rfl ⟨Nat.le_of_ble_eq_true rfl, Nat.le_of_ble_eq_true rfl⟩ hS ⟨h_x0, h_x0r1, l_x0r1, h_x1, h_x1r1, l_x1r1⟩ hl.1 rfl (Nat.le_of_ble_eq_true rfl) dJ16_multiply_5 ⟨Nat.le_of_ble_eq_true rfl, Nat.le_of_ble_eq_true rfl⟩) hS (fun ad2 H locs hp hS hz => ?_)
  obtain ⟨ad3, e4, e5, e6, e7, had2, had3, lo1_2_1, hO⟩ := hp
  have h_x0 := h_x0.ext hO
  have h_x0r1 := h_x0r1.ext hO
  have h_x1 := h_x1.ext hO
  have h_x1r1 := h_x1r1.ext hO
  have hF := hF.trans (hO.mono (fun _ _ z => z.elim))
  obtain rfl := Option.some.inj h
  rw [eQ]
  exact r_aret hx hb hr (Or.inl ⟨_, rfl⟩) hlk hS (Nat.le_of_ble_eq_true rfl) (Nat.le_of_ble_eq_true rfl) dJ16_multiply_8 ⟨_, rfl, ad3, e4, e5, e6, e7, had2, had3, lo1_2_1, hF⟩

abbrev R_J16_compareMagnitude : Room := { frames := 0, cells := 0, slots := 0, locals := 0 }
noncomputable def f_J16_compareMagnitude (x0f0 : Int32) (x0r1n : Nat) (x0r1c : Nat → Int32) (x1f0 : Int32) (x1r1n : Nat) (x1r1c : Nat → Int32) : Option (Int32) :=
  (if (nI x1r1n) ≤ (nI x0r1n) then
    (if (nI x0r1n) ≤ (nI x1r1n) then
      lt (fun (v3 : Int32) =>
      (show Option (Sum (Int32) (Sum (Int32) (Int32 × Int32))) from (
      (if (nI x0r1n) ≤ v3 then
        some (.inr (.inl 0))
      else
        gd x0r1n v3 fun i17 =>
        lti (x0r1c i17) fun v18 =>
        gd x1r1n v3 fun i19 =>
        lti (x1r1c i19) fun v20 =>
        (if v18 = v20 then
          lti (v3 + 1) fun v22 =>
          some (.inl v22)
        else
          some (.inr (.inr (v18, v20)))
        )
      )
      ))
      ) fun F13 =>
      Option.bind (lp 41 (fun x => F13 x) 0) fun w14 =>
      (match w14 with
      | .inl rt => (
      some rt
      )
      | .inr u24 => (
      ltl (u24.1.toInt64) fun v25 =>
      ltl ((v25 &&& 4294967295 : Int64)) fun v26 =>
      ltl (u24.2.toInt64) fun v27 =>
      ltl ((v27 &&& 4294967295 : Int64)) fun v28 =>
      lti (lg_cmp v26 v28) fun v29 =>
      (if 0 ≤ v29 then
        some 1
      else
        some (-1)
      )
      ))
    else
      some 1
    )
  else
    some (-1)
  )
theorem hd_J16_compareMagnitude : Hd yJ16_compareMagnitude 1 := by unfold Hd; decide +kernel
set_option maxHeartbeats 4000000 in
set_option maxRecDepth 100000 in
theorem m_J16_compareMagnitude {l : Launch} {D : DD} (x0 : Nat) (x0r1 : Nat) (x1 : Nat) (x1r1 : Nat) (x0e2 : Int32) (x0e3 : Int32) (x0e4 : Int32) (x0e5 : Int32) (x1e2 : Int32) (x1e3 : Int32) (x1e4 : Int32) (x1e5 : Int32) (x0f0 : Int32) (x0r1n : Nat) (x0r1c : Nat → Int32) (x1f0 : Int32) (x1r1n : Nat) (x1r1c : Nat → Int32) (r : Int32) (h : f_J16_compareMagnitude x0f0 x0r1n x0r1c x1f0 x1r1n x1r1c = some r) : MP l D yJ16_compareMagnitude cJ16_compareMagnitude 9 (some .int) 0 0 [.ref x0, .ref x1] (fun H => OA D 2 x0 [.int x0f0, .ref x0r1, .int x0e2, .int x0e3, .int x0e4, .int x0e5] H ∧ aI D x0r1 x0r1n x0r1c H ∧ x0r1n ≤ 1000000 ∧ OA D 2 x1 [.int x1f0, .ref x1r1, .int x1e2, .int x1e3, .int x1e4, .int x1e5] H ∧ aI D x1r1 x1r1n x1r1c H ∧ x1r1n ≤ 1000000) (some (.int r)) := by
  refine MP.start (by decide +kernel) (Nat.le_of_ble_eq_true rfl) ?_
  intro p e s m below meth c ls hC hS hp hl
  obtain ⟨h_x0, h_x0r1, l_x0r1, h_x1, h_x1r1, l_x1r1⟩ := hp
  obtain ⟨hx, hb, hr, hlk, hml, hown, hts, hnm⟩ := id hC
  have hl : lv_has ls 9 [(0, .ref x0), (1, .ref x1)] := hl
  unfold f_J16_compareMagnitude at h
  have hS0 := hS
  obtain ⟨A, eA⟩ : ∃ A : Array Value, A = [.ref x0, .ref x1].toArray := ⟨_, rfl⟩
  rw [← eA] at hC hts ⊢
  obtain ⟨Q, eQ⟩ : ∃ Q : State → Prop, Q = MQ below (PQ (some (.int r))) A s 0 0 (fun _ => False) := ⟨_, rfl⟩
  show W p l e R_J16_compareMagnitude s m A below meth c s.heap [] 0 0 _ _
  rw [← eQ]
  refine lv_aload_n hx hb dJ16_compareMagnitude_0 rfl (lv_at hl 0 rfl) ?_
  refine r_get hx hb hts hown hS h_x0 rfl in_J16 1 (by decide) q436 rfl (v := .ref x0r1) rfl dJ16_compareMagnitude_1 ?_
  refine lv_astore_n (lv' := [(2, .ref x0r1), (0, .ref x0), (1, .ref x1)]) hx hb dJ16_compareMagnitude_4 rfl hl (by decide) rfl (fun ls hl => ?_)
  refine lv_aload_n hx hb dJ16_compareMagnitude_5 rfl (lv_at hl 0 rfl) ?_
  refine r_alen hx hb hS h_x0r1 dJ16_compareMagnitude_6 ?_
  refine lv_istore_n (lv' := [(3, .int (nI x0r1n)), (2, .ref x0r1), (0, .ref x0), (1, .ref x1)]) hx hb dJ16_compareMagnitude_7 rfl hl (by decide) rfl (fun ls hl => ?_)
  refine lv_aload_n hx hb dJ16_compareMagnitude_8 rfl (lv_at hl 3 rfl) ?_
  refine r_get hx hb hts hown hS h_x1 rfl in_J16 1 (by decide) q436 rfl (v := .ref x1r1) rfl dJ16_compareMagnitude_9 ?_
  refine lv_astore (lv' := [(4, .ref x1r1), (3, .int (nI x0r1n)), (2, .ref x0r1), (0, .ref x0), (1, .ref x1)]) hx hb dJ16_compareMagnitude_12 hl (by decide) rfl (fun ls hl => ?_)
  refine lv_aload hx hb dJ16_compareMagnitude_14 (lv_at hl 0 rfl) ?_
  refine r_alen hx hb hS h_x1r1 dJ16_compareMagnitude_16 ?_
  refine lv_istore (lv' := [(5, .int (nI x1r1n)), (4, .ref x1r1), (3, .int (nI x0r1n)), (2, .ref x0r1), (0, .ref x0), (1, .ref x1)]) hx hb dJ16_compareMagnitude_17 hl (by decide) rfl (fun ls hl => ?_)
  refine lv_iload_n hx hb dJ16_compareMagnitude_19 rfl (lv_at hl 2 rfl) ?_
  refine lv_iload hx hb dJ16_compareMagnitude_20 (lv_at hl 0 rfl) ?_
  refine lv_icmp_ge (tgt := 27) hx hb dJ16_compareMagnitude_22 (by decide) (fun c1 => ?_) (fun c1 => ?_)
  · have h := it_pos h c1
    refine lv_iload_n hx hb dJ16_compareMagnitude_27 rfl (lv_at hl 2 rfl) ?_
    refine lv_iload hx hb dJ16_compareMagnitude_28 (lv_at hl 0 rfl) ?_
    refine lv_icmp_le (tgt := 35) hx hb dJ16_compareMagnitude_30 (by decide) (fun c2 => ?_) (fun c2 => ?_)
    · have h := it_pos h c2
      refine lv_iconst (v := 0) hx hb dJ16_compareMagnitude_35 (by decide) ?_
      refine lv_istore (lv' := [(6, .int 0), (5, .int (nI x1r1n)), (4, .ref x1r1), (3, .int (nI x0r1n)), (2, .ref x0r1), (0, .ref x0), (1, .ref x1)]) hx hb dJ16_compareMagnitude_36 hl (by decide) rfl (fun ls hl => ?_)
      obtain ⟨F13, eF13, h⟩ := lt_step h
      obtain ⟨w14, ew14, h⟩ := bind_step h
      have HL : ∀ (n : Nat) (v3 : Int32) (w14 : Sum (Int32) (Int32 × Int32)) (hk0 : lp n (fun x => F13 x) v3 = some w14)   (ls : Array Slot) (hl : lv_has ls 9 [(2, .ref x0r1), (3, .int (nI x0r1n)), (4, .ref x1r1), (6, .int v3)]) (KR : ∀ rt, w14 = .inl rt → rt = r) (K64 : ∀ (u23 : Int32 × Int32) (eu23 : w14 = .inr u23)  (ls : Array Slot) (hl : lv_has ls 9 [(7, .int u23.1), (8, .int u23.2)]), W p l e R_J16_compareMagnitude s m A below meth c s.heap [] 0 0 Q (F0 m 64 ls [])), W p l e R_J16_compareMagnitude s m A below meth c s.heap [] 0 0 Q (F0 m 38 ls []) := by
        intro n
        induction n with
        | zero => intro v3 w14 hk0   ls hl KR K64; exact lp_zero hk0
        | succ n ih =>
          intro v3 w14 hk0   ls hl KR K64
          obtain ⟨z15, hz, hk⟩ := lp_step hk0
          have h := (congrFun (eF13) v3).symm.trans hz
          refine lv_iload hx hb dJ16_compareMagnitude_38 (lv_at hl 3 rfl) ?_
          refine lv_iload_n hx hb dJ16_compareMagnitude_40 rfl (lv_at hl 1 rfl) ?_
          refine lv_icmp_ge (tgt := 94) hx hb dJ16_compareMagnitude_41 (by decide) (fun c16 => ?_) (fun c16 => ?_)
          · have h := it_pos h c16
            refine lv_iconst (v := 0) hx hb dJ16_compareMagnitude_94 (by decide) ?_
            obtain rfl := Option.some.inj h
            have h := congrArg some (KR _ hk.symm)
            obtain rfl := Option.some.inj h
            rw [eQ]
            exact p_iret hx hb hr hlk dJ16_compareMagnitude_95 rfl
          · have h := it_neg h c16
            refine lv_aload_n hx hb dJ16_compareMagnitude_44 rfl (lv_at hl 0 rfl) ?_
            refine lv_iload hx hb dJ16_compareMagnitude_45 (lv_at hl 3 rfl) ?_
            obtain ⟨i17, xi17, h⟩ := gd_step (nl0 l_x0r1) h
            refine r_iald hx hb hS h_x0r1 i17 xi17 dJ16_compareMagnitude_47 ?_
            obtain ⟨v18, ev18, h⟩ := lti_step h
            refine r_nmI ev18 ?_
            refine lv_istore (lv' := [(7, .int v18), (2, .ref x0r1), (3, .int (nI x0r1n)), (4, .ref x1r1), (6, .int v3)]) hx hb dJ16_compareMagnitude_48 hl (by decide) rfl (fun ls hl => ?_)
            refine lv_aload hx hb dJ16_compareMagnitude_50 (lv_at hl 3 rfl) ?_
            refine lv_iload hx hb dJ16_compareMagnitude_52 (lv_at hl 4 rfl) ?_
            obtain ⟨i19, xi19, h⟩ := gd_step (nl0 l_x1r1) h
            refine r_iald hx hb hS h_x1r1 i19 xi19 dJ16_compareMagnitude_54 ?_
            obtain ⟨v20, ev20, h⟩ := lti_step h
            refine r_nmI ev20 ?_
            refine lv_istore (lv' := [(8, .int v20), (7, .int v18), (2, .ref x0r1), (3, .int (nI x0r1n)), (4, .ref x1r1), (6, .int v3)]) hx hb dJ16_compareMagnitude_55 hl (by decide) rfl (fun ls hl => ?_)
            refine lv_iload hx hb dJ16_compareMagnitude_57 (lv_at hl 1 rfl) ?_
            refine lv_iload hx hb dJ16_compareMagnitude_59 (lv_at hl 0 rfl) ?_
            refine lv_icmp_eq (tgt := 88) hx hb dJ16_compareMagnitude_61 (by decide) (fun c21 => ?_) (fun c21 => ?_)
            · have h := it_pos h c21
              obtain ⟨v22, ev22, h⟩ := lti_step h
              refine lv_iinc (v := v22) (lv' := [(6, .int v22), (8, .int v20), (7, .int v18), (2, .ref x0r1), (3, .int (nI x0r1n)), (4, .ref x1r1)]) hx hb dJ16_compareMagnitude_88 hl (k := 5) rfl (by rw [ev22]; rfl) (by decide) rfl (fun ls hl => ?_)
              refine lv_goto (tgt := 38) hx hb dJ16_compareMagnitude_91 (by decide) ?_
              obtain rfl := Option.some.inj h
              exact ih v22 w14 hk   ls (lv_sub hl [3, 4, 5, 0] rfl) KR K64
            · have h := it_neg h c21
              obtain rfl := Option.some.inj h
              exact K64 (v18, v20) hk.symm  ls (lv_sub hl [1, 0] rfl)
      clear eF13
      refine HL 41 0 w14 ew14   ls (lv_sub hl [4, 3, 2, 0] rfl) (fun rt eR => ?_) (fun u24 eu24  ls hl => ?_)
      · subst eR
        exact Option.some.inj h
      · subst eu24
        refine lv_iload hx hb dJ16_compareMagnitude_64 (lv_at hl 0 rfl) ?_
        obtain ⟨v25, ev25, h⟩ := ltl_step h
        refine r_i2l hx hb ev25 dJ16_compareMagnitude_66 ?_
        refine lv_ldc2 hx hb (v := 4294967295) hown (hts _ q775) dJ16_compareMagnitude_67 ?_
        obtain ⟨v26, ev26, h⟩ := ltl_step h
        refine r_land hx hb ev26 dJ16_compareMagnitude_70 ?_
        refine lv_iload hx hb dJ16_compareMagnitude_71 (lv_at hl 1 rfl) ?_
        obtain ⟨v27, ev27, h⟩ := ltl_step h
        refine r_i2l hx hb ev27 dJ16_compareMagnitude_73 ?_
        refine lv_ldc2 hx hb (v := 4294967295) hown (hts _ q775) dJ16_compareMagnitude_74 ?_
        obtain ⟨v28, ev28, h⟩ := ltl_step h
        refine r_land hx hb ev28 dJ16_compareMagnitude_77 ?_
        obtain ⟨v29, ev29, h⟩ := lti_step h
        refine r_lcmp hx hb ev29 dJ16_compareMagnitude_78 ?_
        refine lv_if_ge (tgt := 86) hx hb dJ16_compareMagnitude_79 (by decide) (fun c30 => ?_) (fun c30 => ?_)
        · have h := it_pos h c30
          refine lv_iconst (v := 1) hx hb dJ16_compareMagnitude_86 (by decide) ?_
          obtain rfl := Option.some.inj h
          rw [eQ]
          exact p_iret hx hb hr hlk dJ16_compareMagnitude_87 rfl
        · have h := it_neg h c30
          refine lv_iconst (v := (-1)) hx hb dJ16_compareMagnitude_82 (by decide) ?_
          refine lv_goto (tgt := 87) hx hb dJ16_compareMagnitude_83 (by decide) ?_
          obtain rfl := Option.some.inj h
          rw [eQ]
          exact p_iret hx hb hr hlk dJ16_compareMagnitude_87 rfl
    · have h := it_neg h c2
      refine lv_iconst (v := 1) hx hb dJ16_compareMagnitude_33 (by decide) ?_
      obtain rfl := Option.some.inj h
      rw [eQ]
      exact p_iret hx hb hr hlk dJ16_compareMagnitude_34 rfl
  · have h := it_neg h c1
    refine lv_iconst (v := (-1)) hx hb dJ16_compareMagnitude_25 (by decide) ?_
    obtain rfl := Option.some.inj h
    rw [eQ]
    exact p_iret hx hb hr hlk dJ16_compareMagnitude_26 rfl

abbrev R_J16_compareTo : Room := { frames := 1, cells := 0, slots := 0, locals := 28 }
noncomputable def f_J16_compareTo (x0f0 : Int32) (x0r1n : Nat) (x0r1c : Nat → Int32) (x1f0 : Int32) (x1r1n : Nat) (x1r1c : Nat → Int32) : Option (Int32) :=
  (if x0f0 = x1f0 then
    (if x0f0 = (-1) then
      Option.bind (f_J16_compareMagnitude x1f0 x1r1n x1r1c x0f0 x0r1n x0r1c) fun o4 =>
      some o4
    else
    (if x0f0 = 1 then
      Option.bind (f_J16_compareMagnitude x0f0 x0r1n x0r1c x1f0 x1r1n x1r1c) fun o6 =>
      some o6
    else
    some 0
    ))
  else
    (if x0f0 ≤ x1f0 then
      some (-1)
    else
      some 1
    )
  )
theorem hd_J16_compareTo : Hd yJ16_compareTo 1 := by unfold Hd; decide +kernel
set_option maxHeartbeats 4000000 in
set_option maxRecDepth 100000 in
theorem m_J16_compareTo {l : Launch} {D : DD} (x0 : Nat) (x0r1 : Nat) (x1 : Nat) (x1r1 : Nat) (x0e2 : Int32) (x0e3 : Int32) (x0e4 : Int32) (x0e5 : Int32) (x1e2 : Int32) (x1e3 : Int32) (x1e4 : Int32) (x1e5 : Int32) (x0f0 : Int32) (x0r1n : Nat) (x0r1c : Nat → Int32) (x1f0 : Int32) (x1r1n : Nat) (x1r1c : Nat → Int32) (r : Int32) (h : f_J16_compareTo x0f0 x0r1n x0r1c x1f0 x1r1n x1r1c = some r) : MP l D yJ16_compareTo cJ16_compareTo 2 (some .int) 1 28 [.ref x0, .ref x1] (fun H => OA D 2 x0 [.int x0f0, .ref x0r1, .int x0e2, .int x0e3, .int x0e4, .int x0e5] H ∧ aI D x0r1 x0r1n x0r1c H ∧ x0r1n ≤ 1000000 ∧ OA D 2 x1 [.int x1f0, .ref x1r1, .int x1e2, .int x1e3, .int x1e4, .int x1e5] H ∧ aI D x1r1 x1r1n x1r1c H ∧ x1r1n ≤ 1000000) (some (.int r)) := by
  refine MP.start (by decide +kernel) (Nat.le_of_ble_eq_true rfl) ?_
  intro p e s m below meth c ls hC hS hp hl
  obtain ⟨h_x0, h_x0r1, l_x0r1, h_x1, h_x1r1, l_x1r1⟩ := hp
  obtain ⟨hx, hb, hr, hlk, hml, hown, hts, hnm⟩ := id hC
  have hl : lv_has ls 2 [(0, .ref x0), (1, .ref x1)] := hl
  unfold f_J16_compareTo at h
  have hS0 := hS
  obtain ⟨A, eA⟩ : ∃ A : Array Value, A = [.ref x0, .ref x1].toArray := ⟨_, rfl⟩
  rw [← eA] at hC hts ⊢
  obtain ⟨Q, eQ⟩ : ∃ Q : State → Prop, Q = MQ below (PQ (some (.int r))) A s 0 0 (fun _ => False) := ⟨_, rfl⟩
  show W p l e R_J16_compareTo s m A below meth c s.heap [] 0 0 _ _
  rw [← eQ]
  refine lv_aload_n hx hb dJ16_compareTo_0 rfl (lv_at hl 0 rfl) ?_
  refine r_get hx hb hts hown hS h_x0 rfl in_J16 0 (by decide) q435 rfl (v := .int x0f0) rfl dJ16_compareTo_1 ?_
  refine lv_aload_n hx hb dJ16_compareTo_4 rfl (lv_at hl 1 rfl) ?_
  refine r_get hx hb hts hown hS h_x1 rfl in_J16 0 (by decide) q435 rfl (v := .int x1f0) rfl dJ16_compareTo_5 ?_
  refine lv_icmp_ne (tgt := 58) hx hb dJ16_compareTo_8 (by decide) (fun c1 => ?_) (fun c1 => ?_)
  · have h := it_neg h c1
    refine lv_aload_n hx hb dJ16_compareTo_58 rfl (lv_at hl 0 rfl) ?_
    refine r_get hx hb hts hown hS h_x0 rfl in_J16 0 (by decide) q435 rfl (v := .int x0f0) rfl dJ16_compareTo_59 ?_
    refine lv_aload_n hx hb dJ16_compareTo_62 rfl (lv_at hl 1 rfl) ?_
    refine r_get hx hb hts hown hS h_x1 rfl in_J16 0 (by decide) q435 rfl (v := .int x1f0) rfl dJ16_compareTo_63 ?_
    refine lv_icmp_le (tgt := 73) hx hb dJ16_compareTo_66 (by decide) (fun c2 => ?_) (fun c2 => ?_)
    · have h := it_pos h c2
      refine lv_iconst (v := (-1)) hx hb dJ16_compareTo_73 (by decide) ?_
      obtain rfl := Option.some.inj h
      rw [eQ]
      exact p_iret hx hb hr hlk dJ16_compareTo_74 rfl
    · have h := it_neg h c2
      refine lv_iconst (v := 1) hx hb dJ16_compareTo_69 (by decide) ?_
      refine lv_goto (tgt := 74) hx hb dJ16_compareTo_70 (by decide) ?_
      obtain rfl := Option.some.inj h
      rw [eQ]
      exact p_iret hx hb hr hlk dJ16_compareTo_74 rfl
  · have h := it_pos h c1
    refine lv_aload_n hx hb dJ16_compareTo_11 rfl (lv_at hl 0 rfl) ?_
    refine r_get hx hb hts hown hS h_x0 rfl in_J16 0 (by decide) q435 rfl (v := .int x0f0) rfl dJ16_compareTo_12 ?_
    by_cases c3 : x0f0 = (-1)
    · have h := it_pos h c3
      refine lv_lookup (off := 33) (tgt := 48) hx hb dJ16_compareTo_15 (by decide) (by rw [c3]; decide) (by decide) ?_
      refine lv_aload_n hx hb dJ16_compareTo_48 rfl (lv_at hl 1 rfl) ?_
      refine lv_aload_n hx hb dJ16_compareTo_49 rfl (lv_at hl 0 rfl) ?_
      obtain ⟨o4, eo4, h⟩ := bind_step h
      refine r_cp (r_runV (rest := []) (As := [.ref x0]) hC 1 (m_J16_compareMagnitude x1 x1r1 x0 x0r1 x1e2 x1e3 x1e4 x1e5 x0e2 x0e3 x0e4 x0e5 x1f0 x1r1n x1r1c x0f0 x0r1n x0r1c o4 eo4) q836 q837 q838 q57 q839 (OA.recv hS h_x1 (C := RJ16) rfl) hd_J16_compareMagnitude rfl ⟨Nat.le_of_ble_eq_true rfl, Nat.le_of_ble_eq_true rfl⟩ hS ⟨h_x1, h_x1r1, l_x1r1, h_x0, h_x0r1, l_x0r1⟩ hl.1 rfl (Nat.le_of_ble_eq_true rfl) dJ16_compareTo_50 ⟨Nat.le_of_ble_eq_true rfl, Nat.le_of_ble_eq_true rfl⟩) ?_
      refine lv_goto (tgt := 57) hx hb dJ16_compareTo_53 (by decide) ?_
      obtain rfl := Option.some.inj h
      rw [eQ]
      exact p_iret hx hb hr hlk dJ16_compareTo_57 rfl
    have h := it_neg h c3
    by_cases c5 : x0f0 = 1
    · have h := it_pos h c5
      refine lv_lookup (off := 25) (tgt := 40) hx hb dJ16_compareTo_15 (by decide) (by rw [c5]; decide) (by decide) ?_
      refine lv_aload_n hx hb dJ16_compareTo_40 rfl (lv_at hl 0 rfl) ?_
      refine lv_aload_n hx hb dJ16_compareTo_41 rfl (lv_at hl 1 rfl) ?_
      obtain ⟨o6, eo6, h⟩ := bind_step h
      refine r_cp (r_runV (rest := []) (As := [.ref x1]) hC 1 (m_J16_compareMagnitude x0 x0r1 x1 x1r1 x0e2 x0e3 x0e4 x0e5 x1e2 x1e3 x1e4 x1e5 x0f0 x0r1n x0r1c x1f0 x1r1n x1r1c o6 eo6) q836 q837 q838 q57 q839 (OA.recv hS h_x0 (C := RJ16) rfl) hd_J16_compareMagnitude rfl ⟨Nat.le_of_ble_eq_true rfl, Nat.le_of_ble_eq_true rfl⟩ hS ⟨h_x0, h_x0r1, l_x0r1, h_x1, h_x1r1, l_x1r1⟩ hl.1 rfl (Nat.le_of_ble_eq_true rfl) dJ16_compareTo_42 ⟨Nat.le_of_ble_eq_true rfl, Nat.le_of_ble_eq_true rfl⟩) ?_
      refine lv_goto (tgt := 57) hx hb dJ16_compareTo_45 (by decide) ?_
      obtain rfl := Option.some.inj h
      rw [eQ]
      exact p_iret hx hb hr hlk dJ16_compareTo_57 rfl
    have h := it_neg h c5
    refine lv_lookup (off := 41) (tgt := 56) hx hb dJ16_compareTo_15 (by decide) ((lv_osw (k := (-1)) c3 (by decide)).trans (lv_osw (k := 1) c5 (by decide))) (by decide) ?_
    refine lv_iconst (v := 0) hx hb dJ16_compareTo_56 (by decide) ?_
    obtain rfl := Option.some.inj h
    rw [eQ]
    exact p_iret hx hb hr hlk dJ16_compareTo_57 rfl

abbrev R_J16_negate : Room := { frames := 3, cells := 1, slots := 6, locals := 62 }
noncomputable def f_J16_negate (x0f0 : Int32) (x0r1n : Nat) (x0r1c : Nat → Int32) : Option (Int32 × Nat × (Nat → Int32)) :=
  lti (-x0f0) fun v2 =>
  Option.bind (f_J16_init_2 x0r1n x0r1c v2) fun o3 =>
  some (o3, x0r1n, x0r1c)
theorem hd_J16_negate : Hd yJ16_negate 0 := by unfold Hd; decide +kernel
set_option maxHeartbeats 4000000 in
set_option maxRecDepth 100000 in
theorem m_J16_negate {l : Launch} {D : DD} (x0 : Nat) (x0r1 : Nat) (x0e2 : Int32) (x0e3 : Int32) (x0e4 : Int32) (x0e5 : Int32) (x0f0 : Int32) (x0r1n : Nat) (x0r1c : Nat → Int32) (r : Int32 × Nat × (Nat → Int32)) (h : f_J16_negate x0f0 x0r1n x0r1c = some r) : MT l D yJ16_negate cJ16_negate 1 (some (.object "java/math/BigInteger")) 3 62 1 6 [.ref x0] (fun H => OA D 2 x0 [.int x0f0, .ref x0r1, .int x0e2, .int x0e3, .int x0e4, .int x0e5] H ∧ aI D x0r1 x0r1n x0r1c H ∧ x0r1n ≤ 1000000) (pR (fun H b H' => ∃ b_1 : Nat, ∃ b_2 b_3 b_4 b_5 : Int32, OA D 2 b [.int r.1, .ref b_1, .int b_2, .int b_3, .int b_4, .int b_5] H' ∧ aI D b_1 r.2.1 r.2.2 H' ∧ r.2.1 ≤ 1000000 ∧ Off (fun _ => False) H H')) := by
  refine MT.start (by decide +kernel) (Nat.le_of_ble_eq_true rfl) ?_
  intro p e s m below meth c ls hC hS hp hl
  obtain ⟨h_x0, h_x0r1, l_x0r1⟩ := hp
  obtain ⟨hx, hb, hr, hlk, hml, hown, hts, hnm⟩ := id hC
  have hl : lv_has ls 1 [(0, .ref x0)] := hl
  unfold f_J16_negate at h
  have hS0 := hS
  obtain ⟨A, eA⟩ : ∃ A : Array Value, A = [.ref x0].toArray := ⟨_, rfl⟩
  rw [← eA] at hC hts ⊢
  obtain ⟨Q, eQ⟩ : ∃ Q : State → Prop, Q = MQ below (TQ D (pR (fun H b H' => ∃ b_1 : Nat, ∃ b_2 b_3 b_4 b_5 : Int32, OA D 2 b [.int r.1, .ref b_1, .int b_2, .int b_3, .int b_4, .int b_5] H' ∧ aI D b_1 r.2.1 r.2.2 H' ∧ r.2.1 ≤ 1000000 ∧ Off (fun _ => False) H H'))) A s 1 6 (fun q => dB D ≤ q) := ⟨_, rfl⟩
  have hF : Off (fun _ => False) s.heap s.heap := Off.rf
  show W p l e R_J16_negate s m A below meth c s.heap [] 0 0 _ _
  rw [← eQ]
  obtain ⟨H, eH⟩ : ∃ H : Heap, H = s.heap := ⟨_, rfl⟩
  obtain ⟨locs, eLc⟩ : ∃ L : List Loc, L = [] := ⟨_, rfl⟩
  have lt_h_x0 := h_x0.lt
  have lt_h_x0r1 := h_x0r1.lt
  rw [← eH, ← eLc]
  have hF : Off (fun _ => False) s.heap H := by rw [eH]; exact hF
  rw [← eH] at h_x0
  rw [← eH] at h_x0r1
  have hS : St D s H locs := by rw [eH, eLc]; exact hS
  refine r_new (k := 2) hx hb hts hown hS rfl in_J16 tyJ16 tyJ16_ok q426 q427 q57 (fs := [.int 0, .null, .int 0, .int 0, .int 0, .int 0]) rfl (by decide) (Nat.le_of_ble_eq_true rfl) (Nat.le_of_ble_eq_true rfl) dJ16_negate_0 (fun ad1 H eq_ad1 hS hE had1 z_ad1 hB_had1 => ?_)
  have gad1 : s.heap.size ≤ ad1 := by have := hF.1; omega
  have ne_h_x0_had1 : x0 ≠ ad1 := by have := h_x0.lt; omega
  have h_x0 := h_x0.ext hE
  have ne_h_x0r1_had1 : x0r1 ≠ ad1 := by have := h_x0r1.lt; omega
  have h_x0r1 := h_x0r1.ext hE
  have hF := hF.trans (hE.mono (fun _ _ z => z.elim))
  refine lv_dup hx hb dJ16_negate_3 rfl ?_
  refine lv_aload_n hx hb dJ16_negate_4 rfl (lv_at hl 0 rfl) ?_
  refine r_get hx hb hts hown hS h_x0 rfl in_J16 1 (by decide) q436 rfl (v := .ref x0r1) rfl dJ16_negate_5 ?_
  refine lv_aload_n hx hb dJ16_negate_8 rfl (lv_at hl 0 rfl) ?_
  refine r_get hx hb hts hown hS h_x0 rfl in_J16 0 (by decide) q435 rfl (v := .int x0f0) rfl dJ16_negate_9 ?_
  obtain ⟨v2, ev2, h⟩ := lti_step h
  refine r_ineg hx hb ev2 dJ16_negate_12 ?_
  obtain ⟨o3, eo3, h⟩ := bind_step h
  refine r_cv (r_runI (rest := [.ref ad1]) (As := [.ref x0r1, .int v2]) hC 2 (m_J16_init_2 ad1 x0r1  x0r1n x0r1c v2 o3 eo3) q473 q474 q57 q475 rfl hd_J16_init_2 rfl ⟨Nat.le_of_ble_eq_true rfl, Nat.le_of_ble_eq_true rfl⟩ hS ⟨had1, hB_had1, h_x0r1, l_x0r1, (Ne.symm ne_h_x0r1_had1)⟩ hl.1 rfl (Nat.le_of_ble_eq_true rfl) dJ16_negate_13 ⟨Nat.le_of_ble_eq_true rfl, Nat.le_of_ble_eq_true rfl⟩) hS (fun H locs hp hS hz => ?_)
  obtain ⟨had1, hO⟩ := hp
  have h_x0 := h_x0.off hO ne_h_x0_had1
  have h_x0r1 := h_x0r1.off hO ne_h_x0r1_had1
  have hF := hF.fresh hO (fun a ha z => absurd (z ▸ ha) (Nat.not_lt.mpr gad1))
  obtain rfl := Option.some.inj h
  rw [eQ]
  exact r_aret hx hb hr (Or.inl ⟨_, rfl⟩) hlk hS (Nat.le_of_ble_eq_true rfl) (Nat.le_of_ble_eq_true rfl) dJ16_negate_16 ⟨_, rfl, x0r1, 0, 0, 0, 0, had1.OA, h_x0r1, l_x0r1, hF⟩

abbrev R_J16_abs : Room := { frames := 4, cells := 1, slots := 6, locals := 82 }
noncomputable def f_J16_abs (x0f0 : Int32) (x0r1n : Nat) (x0r1c : Nat → Int32) : Option (Int32 × Nat × (Nat → Int32)) :=
  (if x0f0 < 0 then
    Option.bind (f_J16_negate x0f0 x0r1n x0r1c) fun o2 =>
    some (o2.1, o2.2.1, o2.2.2)
  else
    some (x0f0, x0r1n, x0r1c)
  )
theorem hd_J16_abs : Hd yJ16_abs 0 := by unfold Hd; decide +kernel
set_option maxHeartbeats 4000000 in
set_option maxRecDepth 100000 in
theorem m_J16_abs {l : Launch} {D : DD} (x0 : Nat) (x0r1 : Nat) (x0e2 : Int32) (x0e3 : Int32) (x0e4 : Int32) (x0e5 : Int32) (x0f0 : Int32) (x0r1n : Nat) (x0r1c : Nat → Int32) (r : Int32 × Nat × (Nat → Int32)) (h : f_J16_abs x0f0 x0r1n x0r1c = some r) : MT l D yJ16_abs cJ16_abs 1 (some (.object "java/math/BigInteger")) 4 82 1 6 [.ref x0] (fun H => OA D 2 x0 [.int x0f0, .ref x0r1, .int x0e2, .int x0e3, .int x0e4, .int x0e5] H ∧ aI D x0r1 x0r1n x0r1c H ∧ x0r1n ≤ 1000000) (pR (fun H b H' => ∃ b_1 : Nat, ∃ b_2 b_3 b_4 b_5 : Int32, OA D 2 b [.int r.1, .ref b_1, .int b_2, .int b_3, .int b_4, .int b_5] H' ∧ aI D b_1 r.2.1 r.2.2 H' ∧ r.2.1 ≤ 1000000 ∧ Off (fun _ => False) H H')) := by
  refine MT.start (by decide +kernel) (Nat.le_of_ble_eq_true rfl) ?_
  intro p e s m below meth c ls hC hS hp hl
  obtain ⟨h_x0, h_x0r1, l_x0r1⟩ := hp
  obtain ⟨hx, hb, hr, hlk, hml, hown, hts, hnm⟩ := id hC
  have hl : lv_has ls 1 [(0, .ref x0)] := hl
  unfold f_J16_abs at h
  have hS0 := hS
  obtain ⟨A, eA⟩ : ∃ A : Array Value, A = [.ref x0].toArray := ⟨_, rfl⟩
  rw [← eA] at hC hts ⊢
  obtain ⟨Q, eQ⟩ : ∃ Q : State → Prop, Q = MQ below (TQ D (pR (fun H b H' => ∃ b_1 : Nat, ∃ b_2 b_3 b_4 b_5 : Int32, OA D 2 b [.int r.1, .ref b_1, .int b_2, .int b_3, .int b_4, .int b_5] H' ∧ aI D b_1 r.2.1 r.2.2 H' ∧ r.2.1 ≤ 1000000 ∧ Off (fun _ => False) H H'))) A s 1 6 (fun q => dB D ≤ q) := ⟨_, rfl⟩
  have hF : Off (fun _ => False) s.heap s.heap := Off.rf
  show W p l e R_J16_abs s m A below meth c s.heap [] 0 0 _ _
  rw [← eQ]
  obtain ⟨H, eH⟩ : ∃ H : Heap, H = s.heap := ⟨_, rfl⟩
  obtain ⟨locs, eLc⟩ : ∃ L : List Loc, L = [] := ⟨_, rfl⟩
  have lt_h_x0 := h_x0.lt
  have lt_h_x0r1 := h_x0r1.lt
  rw [← eH, ← eLc]
  have hF : Off (fun _ => False) s.heap H := by rw [eH]; exact hF
  rw [← eH] at h_x0
  rw [← eH] at h_x0r1
  have hS : St D s H locs := by rw [eH, eLc]; exact hS
  refine lv_aload_n hx hb dJ16_abs_0 rfl (lv_at hl 0 rfl) ?_
  refine r_get hx hb hts hown hS h_x0 rfl in_J16 0 (by decide) q435 rfl (v := .int x0f0) rfl dJ16_abs_1 ?_
  refine lv_if_lt (tgt := 11) hx hb dJ16_abs_4 (by decide) (fun c1 => ?_) (fun c1 => ?_)
  · have h := it_pos h c1
    refine lv_aload_n hx hb dJ16_abs_11 rfl (lv_at hl 0 rfl) ?_
    obtain ⟨o2, eo2, h⟩ := bind_step h
    refine r_cr (r_runV (rest := []) (As := []) hC 0 (m_J16_negate x0 x0r1 x0e2 x0e3 x0e4 x0e5 x0f0 x0r1n x0r1c o2 eo2) q816 q817 q818 q57 q819 (OA.recv hS h_x0 (C := RJ16) rfl) hd_J16_negate rfl ⟨Nat.le_of_ble_eq_true rfl, Nat.le_of_ble_eq_true rfl⟩ hS ⟨h_x0, h_x0r1, l_x0r1⟩ hl.1 rfl (Nat.le_of_ble_eq_true rfl) dJ16_abs_12 ⟨Nat.le_of_ble_eq_true rfl, Nat.le_of_ble_eq_true rfl⟩) hS (fun ad3 H locs hp hS hz => ?_)
    obtain ⟨ad4, e5, e6, e7, e8, had3, had4, lo2_2_1, hO⟩ := hp
    have h_x0 := h_x0.ext hO
    have h_x0r1 := h_x0r1.ext hO
    have hF := hF.trans (hO.mono (fun _ _ z => z.elim))
    obtain rfl := Option.some.inj h
    rw [eQ]
    exact r_aret hx hb hr (Or.inl ⟨_, rfl⟩) hlk hS (Nat.le_of_ble_eq_true rfl) (Nat.le_of_ble_eq_true rfl) dJ16_abs_15 ⟨_, rfl, ad4, e5, e6, e7, e8, had3, had4, lo2_2_1, hF⟩
  · have h := it_neg h c1
    refine lv_aload_n hx hb dJ16_abs_7 rfl (lv_at hl 0 rfl) ?_
    refine lv_goto (tgt := 15) hx hb dJ16_abs_8 (by decide) ?_
    obtain rfl := Option.some.inj h
    rw [eQ]
    exact r_aret hx hb hr (Or.inl ⟨_, rfl⟩) hlk hS (Nat.le_of_ble_eq_true rfl) (Nat.le_of_ble_eq_true rfl) dJ16_abs_15 ⟨_, rfl, x0r1, x0e2, x0e3, x0e4, x0e5, h_x0, h_x0r1, l_x0r1, hF⟩

abbrev R_J16_add_2 : Room := { frames := 1, cells := 2, slots := 24, locals := 38 }
noncomputable def f_J16_add_2 (x0n : Nat) (x0c : Nat → Int32) (x1n : Nat) (x1c : Nat → Int32) : Option (Nat × (Nat → Int32)) :=
  lt (fun (n2 : Nat) (f3 : Nat → Int32) (n5 : Nat) (f6 : Nat → Int32) =>
  gl 12 (nI n2) fun n9 =>
  lt (fun (v10 : Int32) (f11 : Nat → Int32) (v12 : Int64) =>
  ltl (((v12 : Int64).toUInt64 >>> ((32 : Int32).toInt64.toUInt64 &&& Int64.toUInt64 63)).toInt64) fun v14 =>
  lti (lg_cmp v14 0) fun v15 =>
  (if v15 = 0 then
    lt (fun (_u : Unit) =>
    (show Option (Sum (Unit) (Unit)) from (
    (if v10 ≤ 0 then
      some (.inr ())
    else
      some (.inr ())
    )
    ))
    ) fun F19 =>
    Option.bind (lp 41 (fun x => F19 x) ()) fun w20 =>
    lt (fun (v24 : Int32) (f25 : Nat → Int32) =>
    (show Option (Sum (Int32 × (Nat → Int32)) ((Nat → Int32))) from (
    (if v24 ≤ 0 then
      some (.inr f25)
    else
      lti (v24 + (-1)) fun v37 =>
      gd n2 v37 fun i38 =>
      lti (f3 i38) fun v39 =>
      gd n9 v37 fun i40 =>
      lt (va_up f25 i40 v39) fun f41 =>
      some (.inl (v37, f41))
    )
    ))
    ) fun F33 =>
    Option.bind (lp 41 (fun x => F33 x.1 x.2) (v10, f11)) fun w34 =>
    some (n9, w34)
  else
    lt (fun (v43 : Int32) (f44 : Nat → Int32) (v45 : Bool) =>
    (show Option (Sum (Int32 × (Nat → Int32) × Bool) (Int32 × (Nat → Int32) × Bool)) from (
    (if v43 ≤ 0 then
      some (.inr (v43, f44, v45))
    else
      (if v45 = true then
        lti (v43 + (-1)) fun v63 =>
        gd n2 v63 fun i64 =>
        lti (f3 i64) fun v65 =>
        lti (v65 + 1) fun v66 =>
        gd n9 v63 fun i67 =>
        lt (va_up f44 i67 v66) fun f68 =>
        lt (fun (v69 : Bool) =>
        some (.inl (v63, f68, v69))
        ) fun K70 =>
        (if v66 = 0 then
          K70 true
        else
          K70 false
        )
      else
        some (.inr (v43, f44, v45))
      )
    )
    ))
    ) fun F58 =>
    Option.bind (lp 41 (fun x => F58 x.1 x.2.1 x.2.2) (v10, f11, true)) fun w59 =>
    lt (fun (v72 : Int32) (f73 : Nat → Int32) =>
    (show Option (Sum (Int32 × (Nat → Int32)) ((Nat → Int32))) from (
    (if v72 ≤ 0 then
      some (.inr f73)
    else
      lti (v72 + (-1)) fun v85 =>
      gd n2 v85 fun i86 =>
      lti (f3 i86) fun v87 =>
      gd n9 v85 fun i88 =>
      lt (va_up f73 i88 v87) fun f89 =>
      some (.inl (v85, f89))
    )
    ))
    ) fun F81 =>
    Option.bind (lp 41 (fun x => F81 x.1 x.2) (w59.1, w59.2.1)) fun w82 =>
    (if w59.2.2 = true then
      lti ((nI n9) + 1) fun v91 =>
      gl 12 v91 fun n93 =>
      gd (n9 + 1) 0 fun i94 =>
      gd (n93 + 1) 1 fun i95 =>
      gd (n9 + 1) (nI n9) fun i96 =>
      ask (Nat.ble (i94 + i96) n9 && Nat.ble (i95 + i96) n93) <|
      lt (va_cpy w82 (fun _ => 0) i94 i95 i96) fun f98 =>
      gd n93 0 fun i99 =>
      lt (va_up f98 i99 1) fun f100 =>
      some (n93, f100)
    else
      some (n9, w82)
    )
  )
  ) fun K13 =>
  (if (nI n5) = 1 then
    lti ((nI n2) + (-1)) fun v146 =>
    gd n2 v146 fun i147 =>
    lti (f3 i147) fun v148 =>
    ltl (v148.toInt64) fun v149 =>
    ltl ((v149 &&& 4294967295 : Int64)) fun v150 =>
    gd n5 0 fun i151 =>
    lti (f6 i151) fun v152 =>
    ltl (v152.toInt64) fun v153 =>
    ltl ((v153 &&& 4294967295 : Int64)) fun v154 =>
    ltl ((v150 + v154 : Int64)) fun v155 =>
    lti (v155.toInt32) fun v156 =>
    gd n9 v146 fun i157 =>
    lt (va_up (fun _ => 0) i157 v156) fun f158 =>
    K13 v146 f158 v155
  else
    lt (fun (v102 : Int32) (v103 : Int32) (f104 : Nat → Int32) (v105 : Int64) =>
    (show Option (Sum (Int32 × Int32 × (Nat → Int32) × Int64) (Int32 × (Nat → Int32) × Int64)) from (
    (if v103 ≤ 0 then
      some (.inr (v102, f104, v105))
    else
      lti (v102 + (-1)) fun v130 =>
      gd n2 v130 fun i131 =>
      lti (f3 i131) fun v132 =>
      ltl (v132.toInt64) fun v133 =>
      ltl ((v133 &&& 4294967295 : Int64)) fun v134 =>
      lti (v103 + (-1)) fun v135 =>
      gd n5 v135 fun i136 =>
      lti (f6 i136) fun v137 =>
      ltl (v137.toInt64) fun v138 =>
      ltl ((v138 &&& 4294967295 : Int64)) fun v139 =>
      ltl ((v134 + v139 : Int64)) fun v140 =>
      ltl (((v105 : Int64).toUInt64 >>> ((32 : Int32).toInt64.toUInt64 &&& Int64.toUInt64 63)).toInt64) fun v141 =>
      ltl ((v140 + v141 : Int64)) fun v142 =>
      lti (v142.toInt32) fun v143 =>
      gd n9 v130 fun i144 =>
      lt (va_up f104 i144 v143) fun f145 =>
      some (.inl (v130, v135, f145, v142))
    )
    ))
    ) fun F126 =>
    Option.bind (lp 41 (fun x => F126 x.1 x.2.1 x.2.2.1 x.2.2.2) ((nI n2), (nI n5), (fun _ => 0), 0)) fun w127 =>
    K13 w127.1 w127.2.1 w127.2.2
  )
  ) fun K7 =>
  (if (nI x1n) ≤ (nI x0n) then
    K7 x0n x0c x1n x1c
  else
    K7 x1n x1c x0n x0c
  )
theorem hd_J16_add_2 : Hd yJ16_add_2 2 := by unfold Hd; decide +kernel
set_option maxHeartbeats 4000000 in
set_option maxRecDepth 100000 in
theorem m_J16_add_2 {l : Launch} {D : DD} (x0 : Nat) (x1 : Nat)  (x0n : Nat) (x0c : Nat → Int32) (x1n : Nat) (x1c : Nat → Int32) (r : Nat × (Nat → Int32)) (h : f_J16_add_2 x0n x0c x1n x1c = some r) : MT l D yJ16_add_2 cJ16_add_2 9 (some (.array .int)) 1 38 2 24 [.ref x0, .ref x1] (fun H => aI D x0 x0n x0c H ∧ x0n ≤ 1000000 ∧ aI D x1 x1n x1c H ∧ x1n ≤ 1000000) (pR (fun H b H' => aI D b r.1 r.2 H' ∧ r.1 ≤ 1000000 ∧ H.size ≤ b ∧ Off (fun _ => False) H H')) := by
  refine MT.start (by decide +kernel) (Nat.le_of_ble_eq_true rfl) ?_
  intro p e s m below meth c ls hC hS hp hl
  obtain ⟨h_x0, l_x0, h_x1, l_x1⟩ := hp
  obtain ⟨hx, hb, hr, hlk, hml, hown, hts, hnm⟩ := id hC
  have hl : lv_has ls 9 [(0, .ref x0), (1, .ref x1)] := hl
  unfold f_J16_add_2 at h
  have hS0 := hS
  obtain ⟨A, eA⟩ : ∃ A : Array Value, A = [.ref x0, .ref x1].toArray := ⟨_, rfl⟩
  rw [← eA] at hC hts ⊢
  obtain ⟨Q, eQ⟩ : ∃ Q : State → Prop, Q = MQ below (TQ D (pR (fun H b H' => aI D b r.1 r.2 H' ∧ r.1 ≤ 1000000 ∧ H.size ≤ b ∧ Off (fun _ => False) H H'))) A s 2 24 (fun q => dB D ≤ q) := ⟨_, rfl⟩
  have hF : Off (fun _ => False) s.heap s.heap := Off.rf
  show W p l e R_J16_add_2 s m A below meth c s.heap [] 0 0 _ _
  rw [← eQ]
  obtain ⟨H, eH⟩ : ∃ H : Heap, H = s.heap := ⟨_, rfl⟩
  obtain ⟨locs, eLc⟩ : ∃ L : List Loc, L = [] := ⟨_, rfl⟩
  have lt_h_x0 := h_x0.lt
  have lt_h_x1 := h_x1.lt
  rw [← eH, ← eLc]
  have hF : Off (fun _ => False) s.heap H := by rw [eH]; exact hF
  rw [← eH] at h_x0
  rw [← eH] at h_x1
  have hS : St D s H locs := by rw [eH, eLc]; exact hS
  refine lv_aload_n hx hb dJ16_add_2_0 rfl (lv_at hl 0 rfl) ?_
  refine r_alen hx hb hS h_x0 dJ16_add_2_1 ?_
  refine lv_aload_n hx hb dJ16_add_2_2 rfl (lv_at hl 1 rfl) ?_
  refine r_alen hx hb hS h_x1 dJ16_add_2_3 ?_
  obtain ⟨K7, eK7, h⟩ := lt_step h
  have HK7 : ∀ (n2 : Nat) (f3 : Nat → Int32) (n5 : Nat) (f6 : Nat → Int32) (h : K7 n2 f3 n5 f6 = some r) (ad1 : Nat) (ad4 : Nat) (ln2 : n2 ≤ 1000000) (ln5 : n5 ≤ 1000000) (H : Heap) (locs : List Loc) (hS : St D s H locs) (hF : Off (fun _ => False) s.heap H) (h_x0 : aI D x0 x0n x0c H) (h_x1 : aI D x1 x1n x1c H) (had1 : aI D ad1 n2 f3 H) (had4 : aI D ad4 n5 f6 H) (ls : Array Slot) (hl : lv_has ls 9 [(0, .ref ad1), (1, .ref ad4)]), W p l e R_J16_add_2 s m A below meth c H locs 0 0 Q (F0 m 13 ls []) := by
    intro n2 f3 n5 f6 h ad1 ad4 ln2 ln5 H locs hS hF h_x0 h_x1 had1 had4 ls hl
    subst eK7
    refine lv_aload_n hx hb dJ16_add_2_13 rfl (lv_at hl 0 rfl) ?_
    refine r_alen hx hb hS had1 dJ16_add_2_14 ?_
    refine lv_istore_n (lv' := [(2, .int (nI n2)), (0, .ref ad1), (1, .ref ad4)]) hx hb dJ16_add_2_15 rfl hl (by decide) rfl (fun ls hl => ?_)
    refine lv_aload_n hx hb dJ16_add_2_16 rfl (lv_at hl 2 rfl) ?_
    refine r_alen hx hb hS had4 dJ16_add_2_17 ?_
    refine lv_istore_n (lv' := [(3, .int (nI n5)), (2, .int (nI n2)), (0, .ref ad1), (1, .ref ad4)]) hx hb dJ16_add_2_18 rfl hl (by decide) rfl (fun ls hl => ?_)
    refine lv_iload_n hx hb dJ16_add_2_19 rfl (lv_at hl 1 rfl) ?_
    obtain ⟨n9, xn9, h⟩ := gl_step (by decide) h
    refine r_newaB hx hb hts hS (ty := .int) rfl q453 12 n9 xn9 (by decide) (by decide) (Nat.le_of_ble_eq_true rfl) (Nat.le_of_ble_eq_true rfl) dJ16_add_2_20 (fun ad8 H eq_ad8 hS hE had8 z_ad8 hB_had8 => ?_)
    have had8 : aI D ad8 n9 (fun _ => 0) H := had8
    have gad8 : s.heap.size ≤ ad8 := by have := hF.1; omega
    have ne_h_x0_had8 : x0 ≠ ad8 := by have := h_x0.lt; omega
    have h_x0 := h_x0.ext hE
    have ne_h_x1_had8 : x1 ≠ ad8 := by have := h_x1.lt; omega
    have h_x1 := h_x1.ext hE
    have ne_had1_had8 : ad1 ≠ ad8 := by have := had1.lt; omega
    have had1 := had1.ext hE
    have ne_had4_had8 : ad4 ≠ ad8 := by have := had4.lt; omega
    have had4 := had4.ext hE
    have hF := hF.trans (hE.mono (fun _ _ z => z.elim))
    refine lv_astore (lv' := [(4, .ref ad8), (3, .int (nI n5)), (2, .int (nI n2)), (0, .ref ad1), (1, .ref ad4)]) hx hb dJ16_add_2_22 hl (by decide) rfl (fun ls hl => ?_)
    refine lv_lconst (v := 0) hx hb dJ16_add_2_24 rfl ?_
    refine lv_lstore (lv' := [(5, .long 0), (4, .ref ad8), (3, .int (nI n5)), (2, .int (nI n2)), (0, .ref ad1), (1, .ref ad4)]) hx hb dJ16_add_2_25 hl (by decide) rfl (fun ls hl => ?_)
    refine lv_iload_n hx hb dJ16_add_2_27 rfl (lv_at hl 2 rfl) ?_
    refine lv_iconst (v := 1) hx hb dJ16_add_2_28 (by decide) ?_
    obtain ⟨K13, eK13, h⟩ := lt_step h
    have HK13 : ∀ (v10 : Int32) (f11 : Nat → Int32) (v12 : Int64) (h : K13 v10 f11 v12 = some r) (H : Heap) (locs : List Loc) (hS : St D s H locs) (hF : Off (fun _ => False) s.heap H) (h_x0 : aI D x0 x0n x0c H) (h_x1 : aI D x1 x1n x1c H) (had1 : aI D ad1 n2 f3 H) (had8 : aI D ad8 n9 f11 H) (ls : Array Slot) (hl : lv_has ls 9 [(0, .ref ad1), (2, .int v10), (4, .ref ad8), (5, .long v12)]), W p l e R_J16_add_2 s m A below meth c H locs 1 12 Q (F0 m 109 ls []) := by
      intro v10 f11 v12 h H locs hS hF h_x0 h_x1 had1 had8 ls hl
      subst eK13
      refine lv_lload hx hb dJ16_add_2_109 (lv_at hl 3 rfl) ?_
      refine lv_bipush (v := 32) hx hb dJ16_add_2_111 (by decide) ?_
      obtain ⟨v14, ev14, h⟩ := ltl_step h
      refine r_lushr hx hb ev14 dJ16_add_2_113 ?_
      refine lv_lconst (v := 0) hx hb dJ16_add_2_114 rfl ?_
      obtain ⟨v15, ev15, h⟩ := lti_step h
      refine r_lcmp hx hb ev15 dJ16_add_2_115 ?_
      refine lv_if_eq (tgt := 123) hx hb dJ16_add_2_116 (by decide) (fun c16 => ?_) (fun c16 => ?_)
      · have h := it_pos h c16
        refine lv_iconst (v := 0) hx hb dJ16_add_2_123 (by decide) ?_
        refine lv_istore (lv' := [(7, .int 0), (0, .ref ad1), (2, .int v10), (4, .ref ad8), (5, .long v12)]) hx hb dJ16_add_2_124 hl (by decide) rfl (fun ls hl => ?_)
        obtain ⟨F19, eF19, h⟩ := lt_step h
        obtain ⟨w20, ew20, h⟩ := bind_step h
        have HL : ∀ (n : Nat)  (w20 : Unit) (hk0 : lp n (fun x => F19 x) () = some w20)  (H : Heap) (locs : List Loc) (hS : St D s H locs) (hF : Off (fun _ => False) s.heap H) (h_x0 : aI D x0 x0n x0c H) (h_x1 : aI D x1 x1n x1c H) (had1 : aI D ad1 n2 f3 H) (had8 : aI D ad8 n9 f11 H) (ls : Array Slot) (hl : lv_has ls 9 [(0, .ref ad1), (2, .int v10), (4, .ref ad8), (7, .int 0)]) (K161 : ∀ (H : Heap) (locs : List Loc) (hS : St D s H locs) (hF : Off (fun _ => False) s.heap H) (h_x0 : aI D x0 x0n x0c H) (h_x1 : aI D x1 x1n x1c H) (had1 : aI D ad1 n2 f3 H) (had8 : aI D ad8 n9 f11 H) (ls : Array Slot) (hl : lv_has ls 9 [(0, .ref ad1), (2, .int v10), (4, .ref ad8), (7, .int 0)]), W p l e R_J16_add_2 s m A below meth c H locs 1 12 Q (F0 m 161 ls [])), W p l e R_J16_add_2 s m A below meth c H locs 1 12 Q (F0 m 126 ls []) := by
          intro n
          induction n with
          | zero => intro  w20 hk0  H locs hS hF h_x0 h_x1 had1 had8 ls hl K161; exact lp_zero hk0
          | succ n ih =>
            intro  w20 hk0  H locs hS hF h_x0 h_x1 had1 had8 ls hl K161
            obtain ⟨z21, hz, hk⟩ := lp_step hk0
            have h := (congrFun (eF19) ()).symm.trans hz
            refine lv_iload_n hx hb dJ16_add_2_126 rfl (lv_at hl 1 rfl) ?_
            refine lv_if_le (tgt := 161) hx hb dJ16_add_2_127 (by decide) (fun c22 => ?_) (fun c22 => ?_)
            · have h := it_pos h c22
              obtain rfl := Option.some.inj h
              obtain rfl := id hk
              exact K161 H locs hS hF h_x0 h_x1 had1 had8 ls (lv_sub hl [0, 1, 2, 3] rfl)
            · have h := it_neg h c22
              refine lv_iload hx hb dJ16_add_2_130 (lv_at hl 3 rfl) ?_
              refine lv_if_eq (tgt := 161) hx hb dJ16_add_2_132 (by decide) (fun c23 => ?_) (fun c23 => ?_)
              rotate_left
              · exact absurd c23 (by decide)
              obtain rfl := Option.some.inj h
              obtain rfl := id hk
              exact K161 H locs hS hF h_x0 h_x1 had1 had8 ls (lv_sub hl [0, 1, 2, 3] rfl)
        clear eF19
        refine HL 41  w20 ew20  H locs hS hF h_x0 h_x1 had1 had8 ls (lv_sub hl [1, 2, 3, 0] rfl) (fun  H locs hS hF h_x0 h_x1 had1 had8 ls hl => ?_)
        obtain ⟨F33, eF33, h⟩ := lt_step h
        obtain ⟨w34, ew34, h⟩ := bind_step h
        have HL : ∀ (n : Nat) (v24 : Int32) (f25 : Nat → Int32) (w34 : (Nat → Int32)) (hk0 : lp n (fun x => F33 x.1 x.2) (v24, f25) = some w34)  (H : Heap) (locs : List Loc) (hS : St D s H locs) (hF : Off (fun _ => False) s.heap H) (h_x0 : aI D x0 x0n x0c H) (h_x1 : aI D x1 x1n x1c H) (had1 : aI D ad1 n2 f3 H) (had8 : aI D ad8 n9 f25 H) (ls : Array Slot) (hl : lv_has ls 9 [(0, .ref ad1), (2, .int v24), (4, .ref ad8), (7, .int 0)]) (K178 : ∀ (H : Heap) (locs : List Loc) (hS : St D s H locs) (hF : Off (fun _ => False) s.heap H) (h_x0 : aI D x0 x0n x0c H) (h_x1 : aI D x1 x1n x1c H) (had8 : aI D ad8 n9 w34 H) (ls : Array Slot) (hl : lv_has ls 9 [(4, .ref ad8), (7, .int 0)]), W p l e R_J16_add_2 s m A below meth c H locs 1 12 Q (F0 m 178 ls [])), W p l e R_J16_add_2 s m A below meth c H locs 1 12 Q (F0 m 161 ls []) := by
          intro n
          induction n with
          | zero => intro v24 f25 w34 hk0  H locs hS hF h_x0 h_x1 had1 had8 ls hl K178; exact lp_zero hk0
          | succ n ih =>
            intro v24 f25 w34 hk0  H locs hS hF h_x0 h_x1 had1 had8 ls hl K178
            obtain ⟨z35, hz, hk⟩ := lp_step hk0
            have h := (congrFun (congrFun (eF33) v24) f25).symm.trans hz
            refine lv_iload_n hx hb dJ16_add_2_161 rfl (lv_at hl 1 rfl) ?_
            refine lv_if_le (tgt := 178) hx hb dJ16_add_2_162 (by decide) (fun c36 => ?_) (fun c36 => ?_)
            · have h := it_pos h c36
              obtain rfl := Option.some.inj h
              obtain rfl := id hk
              exact K178 H locs hS hF h_x0 h_x1 had8 ls (lv_sub hl [2, 3] rfl)
            · have h := it_neg h c36
              refine lv_aload hx hb dJ16_add_2_165 (lv_at hl 2 rfl) ?_
              obtain ⟨v37, ev37, h⟩ := lti_step h
              refine lv_iinc (v := v37) (lv' := [(2, .int v37), (0, .ref ad1), (4, .ref ad8), (7, .int 0)]) hx hb dJ16_add_2_167 hl (k := 1) rfl (by rw [ev37]; rfl) (by decide) rfl (fun ls hl => ?_)
              refine lv_iload_n hx hb dJ16_add_2_170 rfl (lv_at hl 0 rfl) ?_
              refine lv_aload_n hx hb dJ16_add_2_171 rfl (lv_at hl 1 rfl) ?_
              refine lv_iload_n hx hb dJ16_add_2_172 rfl (lv_at hl 0 rfl) ?_
              obtain ⟨i38, xi38, h⟩ := gd_step (nl0 ln2) h
              refine r_iald hx hb hS had1 i38 xi38 dJ16_add_2_173 ?_
              obtain ⟨v39, ev39, h⟩ := lti_step h
              refine r_nmI ev39 ?_
              obtain ⟨i40, xi40, h⟩ := gd_step (nl0 (le_of_gl xn9 (by decide))) h
              obtain ⟨f41, ef41, h⟩ := lt_step h
              refine r_iast hx hb hS had8 hB_had8 i40 xi40 dJ16_add_2_174 (fun H locs hS hO had8 => ?_)
              have had8 : aI D ad8 n9 f41 H := by rw [ef41]; exact had8
              have h_x0 := h_x0.off hO ne_h_x0_had8
              have h_x1 := h_x1.off hO ne_h_x1_had8
              have had1 := had1.off hO ne_had1_had8
              have hF := hF.fresh hO (fun a ha z => absurd (z ▸ ha) (Nat.not_lt.mpr gad8))
              refine lv_goto (tgt := 161) hx hb dJ16_add_2_175 (by decide) ?_
              obtain rfl := Option.some.inj h
              exact ih v37 f41 w34 hk  H locs hS hF h_x0 h_x1 had1 had8 ls (lv_sub hl [1, 0, 2, 3] rfl) K178
        clear eF33
        refine HL 41 v10 f11 w34 ew34  H locs hS hF h_x0 h_x1 had1 had8 ls (lv_sub hl [0, 1, 2, 3] rfl) (fun  H locs hS hF h_x0 h_x1 had8 ls hl => ?_)
        refine lv_iload hx hb dJ16_add_2_178 (lv_at hl 1 rfl) ?_
        refine lv_if_eq (tgt := 212) hx hb dJ16_add_2_180 (by decide) (fun c42 => ?_) (fun c42 => ?_)
        rotate_left
        · exact absurd c42 (by decide)
        refine lv_aload hx hb dJ16_add_2_212 (lv_at hl 0 rfl) ?_
        obtain rfl := Option.some.inj h
        rw [eQ]
        exact r_aret hx hb hr (Or.inr ⟨_, rfl⟩) hlk hS (Nat.le_of_ble_eq_true rfl) (Nat.le_of_ble_eq_true rfl) dJ16_add_2_214 ⟨_, rfl, had8, (le_of_gl xn9 (by decide)), gad8, hF⟩
      · have h := it_neg h c16
        refine lv_iconst (v := 1) hx hb dJ16_add_2_119 (by decide) ?_
        refine lv_goto (tgt := 124) hx hb dJ16_add_2_120 (by decide) ?_
        refine lv_istore (lv' := [(7, .int 1), (0, .ref ad1), (2, .int v10), (4, .ref ad8), (5, .long v12)]) hx hb dJ16_add_2_124 hl (by decide) rfl (fun ls hl => ?_)
        obtain ⟨F58, eF58, h⟩ := lt_step h
        obtain ⟨w59, ew59, h⟩ := bind_step h
        have HL : ∀ (n : Nat) (v43 : Int32) (f44 : Nat → Int32) (v45 : Bool) (w59 : Int32 × (Nat → Int32) × Bool) (hk0 : lp n (fun x => F58 x.1 x.2.1 x.2.2) (v43, f44, v45) = some w59)  (H : Heap) (locs : List Loc) (hS : St D s H locs) (hF : Off (fun _ => False) s.heap H) (h_x0 : aI D x0 x0n x0c H) (h_x1 : aI D x1 x1n x1c H) (had1 : aI D ad1 n2 f3 H) (had8 : aI D ad8 n9 f44 H) (ls : Array Slot) (hl : lv_has ls 9 [(0, .ref ad1), (2, .int v43), (4, .ref ad8), (7, .int (bI v45))]) (K161 : ∀ (H : Heap) (locs : List Loc) (hS : St D s H locs) (hF : Off (fun _ => False) s.heap H) (h_x0 : aI D x0 x0n x0c H) (h_x1 : aI D x1 x1n x1c H) (had1 : aI D ad1 n2 f3 H) (had8 : aI D ad8 n9 w59.2.1 H) (ls : Array Slot) (hl : lv_has ls 9 [(0, .ref ad1), (2, .int w59.1), (4, .ref ad8), (7, .int (bI w59.2.2))]), W p l e R_J16_add_2 s m A below meth c H locs 1 12 Q (F0 m 161 ls [])), W p l e R_J16_add_2 s m A below meth c H locs 1 12 Q (F0 m 126 ls []) := by
          intro n
          induction n with
          | zero => intro v43 f44 v45 w59 hk0  H locs hS hF h_x0 h_x1 had1 had8 ls hl K161; exact lp_zero hk0
          | succ n ih =>
            intro v43 f44 v45 w59 hk0  H locs hS hF h_x0 h_x1 had1 had8 ls hl K161
            obtain ⟨z60, hz, hk⟩ := lp_step hk0
            have h := (congrFun (congrFun (congrFun (eF58) v43) f44) v45).symm.trans hz
            refine lv_iload_n hx hb dJ16_add_2_126 rfl (lv_at hl 1 rfl) ?_
            refine lv_if_le (tgt := 161) hx hb dJ16_add_2_127 (by decide) (fun c61 => ?_) (fun c61 => ?_)
            · have h := it_pos h c61
              obtain rfl := Option.some.inj h
              obtain rfl := id hk
              exact K161 H locs hS hF h_x0 h_x1 had1 had8 ls (lv_sub hl [0, 1, 2, 3] rfl)
            · have h := it_neg h c61
              refine lv_iload hx hb dJ16_add_2_130 (lv_at hl 3 rfl) ?_
              refine r_ifz_eq (tgt := 161) hx hb dJ16_add_2_132 (by decide) (fun c62 => ?_) (fun c62 => ?_)
              · have h := it_neg h (by rw [c62]; decide)
                obtain rfl := Option.some.inj h
                obtain rfl := id hk
                exact K161 H locs hS hF h_x0 h_x1 had1 had8 ls (lv_sub hl [0, 1, 2, 3] rfl)
              · have h := it_pos h (by rw [c62])
                refine lv_aload hx hb dJ16_add_2_135 (lv_at hl 2 rfl) ?_
                obtain ⟨v63, ev63, h⟩ := lti_step h
                refine lv_iinc (v := v63) (lv' := [(2, .int v63), (0, .ref ad1), (4, .ref ad8), (7, .int (bI v45))]) hx hb dJ16_add_2_137 hl (k := 1) rfl (by rw [ev63]; rfl) (by decide) rfl (fun ls hl => ?_)
                refine lv_iload_n hx hb dJ16_add_2_140 rfl (lv_at hl 0 rfl) ?_
                refine lv_aload_n hx hb dJ16_add_2_141 rfl (lv_at hl 1 rfl) ?_
                refine lv_iload_n hx hb dJ16_add_2_142 rfl (lv_at hl 0 rfl) ?_
                obtain ⟨i64, xi64, h⟩ := gd_step (nl0 ln2) h
                refine r_iald hx hb hS had1 i64 xi64 dJ16_add_2_143 ?_
                obtain ⟨v65, ev65, h⟩ := lti_step h
                refine r_nmI ev65 ?_
                refine lv_iconst (v := 1) hx hb dJ16_add_2_144 (by decide) ?_
                obtain ⟨v66, ev66, h⟩ := lti_step h
                refine r_iadd hx hb ev66 dJ16_add_2_145 ?_
                refine lv_dup_x2 hx hb dJ16_add_2_146 rfl rfl rfl ?_
                obtain ⟨i67, xi67, h⟩ := gd_step (nl0 (le_of_gl xn9 (by decide))) h
                obtain ⟨f68, ef68, h⟩ := lt_step h
                refine r_iast hx hb hS had8 hB_had8 i67 xi67 dJ16_add_2_147 (fun H locs hS hO had8 => ?_)
                have had8 : aI D ad8 n9 f68 H := by rw [ef68]; exact had8
                have h_x0 := h_x0.off hO ne_h_x0_had8
                have h_x1 := h_x1.off hO ne_h_x1_had8
                have had1 := had1.off hO ne_had1_had8
                have hF := hF.fresh hO (fun a ha z => absurd (z ▸ ha) (Nat.not_lt.mpr gad8))
                obtain ⟨K70, eK70, h⟩ := lt_step h
                have HK70 : ∀ (v69 : Bool) (h : K70 v69 = some z60) (H : Heap) (locs : List Loc) (hS : St D s H locs) (hF : Off (fun _ => False) s.heap H) (h_x0 : aI D x0 x0n x0c H) (h_x1 : aI D x1 x1n x1c H) (had1 : aI D ad1 n2 f3 H) (had8 : aI D ad8 n9 f68 H) (ls : Array Slot) (hl : lv_has ls 9 [(0, .ref ad1), (2, .int v63), (4, .ref ad8)]), W p l e R_J16_add_2 s m A below meth c H locs 1 12 Q (F0 m 156 ls [.int (bI v69)]) := by
                  intro v69 h H locs hS hF h_x0 h_x1 had1 had8 ls hl
                  subst eK70
                  refine lv_istore (lv' := [(7, .int (bI v69)), (0, .ref ad1), (2, .int v63), (4, .ref ad8)]) hx hb dJ16_add_2_156 hl (by decide) rfl (fun ls hl => ?_)
                  refine lv_goto (tgt := 126) hx hb dJ16_add_2_158 (by decide) ?_
                  obtain rfl := Option.some.inj h
                  exact ih v63 f68 v69 w59 hk  H locs hS hF h_x0 h_x1 had1 had8 ls (lv_sub hl [1, 2, 3, 0] rfl) K161
                clear eK70
                refine lv_if_ne (tgt := 155) hx hb dJ16_add_2_148 (by decide) (fun c71 => ?_) (fun c71 => ?_)
                · have h := it_neg h c71
                  refine lv_iconst (v := 0) hx hb dJ16_add_2_155 (by decide) ?_
                  exact HK70 false h H locs hS hF h_x0 h_x1 had1 had8 ls (lv_sub hl [1, 0, 2] rfl)
                · have h := it_pos h c71
                  refine lv_iconst (v := 1) hx hb dJ16_add_2_151 (by decide) ?_
                  refine lv_goto (tgt := 156) hx hb dJ16_add_2_152 (by decide) ?_
                  exact HK70 true h H locs hS hF h_x0 h_x1 had1 had8 ls (lv_sub hl [1, 0, 2] rfl)
        clear eF58
        refine HL 41 v10 f11 true w59 ew59  H locs hS hF h_x0 h_x1 had1 had8 ls (lv_sub hl [1, 2, 3, 0] rfl) (fun  H locs hS hF h_x0 h_x1 had1 had8 ls hl => ?_)
        obtain ⟨F81, eF81, h⟩ := lt_step h
        obtain ⟨w82, ew82, h⟩ := bind_step h
        have HL : ∀ (n : Nat) (v72 : Int32) (f73 : Nat → Int32) (w82 : (Nat → Int32)) (hk0 : lp n (fun x => F81 x.1 x.2) (v72, f73) = some w82)  (H : Heap) (locs : List Loc) (hS : St D s H locs) (hF : Off (fun _ => False) s.heap H) (h_x0 : aI D x0 x0n x0c H) (h_x1 : aI D x1 x1n x1c H) (had1 : aI D ad1 n2 f3 H) (had8 : aI D ad8 n9 f73 H) (ls : Array Slot) (hl : lv_has ls 9 [(0, .ref ad1), (2, .int v72), (4, .ref ad8), (7, .int (bI w59.2.2))]) (K178 : ∀ (H : Heap) (locs : List Loc) (hS : St D s H locs) (hF : Off (fun _ => False) s.heap H) (h_x0 : aI D x0 x0n x0c H) (h_x1 : aI D x1 x1n x1c H) (had8 : aI D ad8 n9 w82 H) (ls : Array Slot) (hl : lv_has ls 9 [(4, .ref ad8), (7, .int (bI w59.2.2))]), W p l e R_J16_add_2 s m A below meth c H locs 1 12 Q (F0 m 178 ls [])), W p l e R_J16_add_2 s m A below meth c H locs 1 12 Q (F0 m 161 ls []) := by
          intro n
          induction n with
          | zero => intro v72 f73 w82 hk0  H locs hS hF h_x0 h_x1 had1 had8 ls hl K178; exact lp_zero hk0
          | succ n ih =>
            intro v72 f73 w82 hk0  H locs hS hF h_x0 h_x1 had1 had8 ls hl K178
            obtain ⟨z83, hz, hk⟩ := lp_step hk0
            have h := (congrFun (congrFun (eF81) v72) f73).symm.trans hz
            refine lv_iload_n hx hb dJ16_add_2_161 rfl (lv_at hl 1 rfl) ?_
            refine lv_if_le (tgt := 178) hx hb dJ16_add_2_162 (by decide) (fun c84 => ?_) (fun c84 => ?_)
            · have h := it_pos h c84
              obtain rfl := Option.some.inj h
              obtain rfl := id hk
              exact K178 H locs hS hF h_x0 h_x1 had8 ls (lv_sub hl [2, 3] rfl)
            · have h := it_neg h c84
              refine lv_aload hx hb dJ16_add_2_165 (lv_at hl 2 rfl) ?_
              obtain ⟨v85, ev85, h⟩ := lti_step h
              refine lv_iinc (v := v85) (lv' := [(2, .int v85), (0, .ref ad1), (4, .ref ad8), (7, .int (bI w59.2.2))]) hx hb dJ16_add_2_167 hl (k := 1) rfl (by rw [ev85]; rfl) (by decide) rfl (fun ls hl => ?_)
              refine lv_iload_n hx hb dJ16_add_2_170 rfl (lv_at hl 0 rfl) ?_
              refine lv_aload_n hx hb dJ16_add_2_171 rfl (lv_at hl 1 rfl) ?_
              refine lv_iload_n hx hb dJ16_add_2_172 rfl (lv_at hl 0 rfl) ?_
              obtain ⟨i86, xi86, h⟩ := gd_step (nl0 ln2) h
              refine r_iald hx hb hS had1 i86 xi86 dJ16_add_2_173 ?_
              obtain ⟨v87, ev87, h⟩ := lti_step h
              refine r_nmI ev87 ?_
              obtain ⟨i88, xi88, h⟩ := gd_step (nl0 (le_of_gl xn9 (by decide))) h
              obtain ⟨f89, ef89, h⟩ := lt_step h
              refine r_iast hx hb hS had8 hB_had8 i88 xi88 dJ16_add_2_174 (fun H locs hS hO had8 => ?_)
              have had8 : aI D ad8 n9 f89 H := by rw [ef89]; exact had8
              have h_x0 := h_x0.off hO ne_h_x0_had8
              have h_x1 := h_x1.off hO ne_h_x1_had8
              have had1 := had1.off hO ne_had1_had8
              have hF := hF.fresh hO (fun a ha z => absurd (z ▸ ha) (Nat.not_lt.mpr gad8))
              refine lv_goto (tgt := 161) hx hb dJ16_add_2_175 (by decide) ?_
              obtain rfl := Option.some.inj h
              exact ih v85 f89 w82 hk  H locs hS hF h_x0 h_x1 had1 had8 ls (lv_sub hl [1, 0, 2, 3] rfl) K178
        clear eF81
        refine HL 41 w59.1 w59.2.1 w82 ew82  H locs hS hF h_x0 h_x1 had1 had8 ls (lv_sub hl [0, 1, 2, 3] rfl) (fun  H locs hS hF h_x0 h_x1 had8 ls hl => ?_)
        refine lv_iload hx hb dJ16_add_2_178 (lv_at hl 1 rfl) ?_
        refine r_ifz_eq (tgt := 212) hx hb dJ16_add_2_180 (by decide) (fun c90 => ?_) (fun c90 => ?_)
        · have h := it_neg h (by rw [c90]; decide)
          refine lv_aload hx hb dJ16_add_2_212 (lv_at hl 0 rfl) ?_
          obtain rfl := Option.some.inj h
          rw [eQ]
          exact r_aret hx hb hr (Or.inr ⟨_, rfl⟩) hlk hS (Nat.le_of_ble_eq_true rfl) (Nat.le_of_ble_eq_true rfl) dJ16_add_2_214 ⟨_, rfl, had8, (le_of_gl xn9 (by decide)), gad8, hF⟩
        · have h := it_pos h (by rw [c90])
          refine lv_aload hx hb dJ16_add_2_183 (lv_at hl 0 rfl) ?_
          refine r_alen hx hb hS had8 dJ16_add_2_185 ?_
          refine lv_iconst (v := 1) hx hb dJ16_add_2_186 (by decide) ?_
          obtain ⟨v91, ev91, h⟩ := lti_step h
          refine r_iadd hx hb ev91 dJ16_add_2_187 ?_
          obtain ⟨n93, xn93, h⟩ := gl_step (by decide) h
          refine r_newaB hx hb hts hS (ty := .int) rfl q453 12 n93 xn93 (by decide) (by decide) (Nat.le_of_ble_eq_true rfl) (Nat.le_of_ble_eq_true rfl) dJ16_add_2_188 (fun ad92 H eq_ad92 hS hE had92 z_ad92 hB_had92 => ?_)
          have had92 : aI D ad92 n93 (fun _ => 0) H := had92
          have gad92 : s.heap.size ≤ ad92 := by have := hF.1; omega
          have ne_h_x0_had92 : x0 ≠ ad92 := by have := h_x0.lt; omega
          have h_x0 := h_x0.ext hE
          have ne_h_x1_had92 : x1 ≠ ad92 := by have := h_x1.lt; omega
          have h_x1 := h_x1.ext hE
          have ne_had8_had92 : ad8 ≠ ad92 := by have := had8.lt; omega
          have had8 := had8.ext hE
          have hF := hF.trans (hE.mono (fun _ _ z => z.elim))
          refine lv_astore (lv' := [(8, .ref ad92), (4, .ref ad8), (7, .int (bI w59.2.2))]) hx hb dJ16_add_2_190 hl (by decide) rfl (fun ls hl => ?_)
          refine lv_aload hx hb dJ16_add_2_192 (lv_at hl 1 rfl) ?_
          refine lv_iconst (v := 0) hx hb dJ16_add_2_194 (by decide) ?_
          refine lv_aload hx hb dJ16_add_2_195 (lv_at hl 0 rfl) ?_
          refine lv_iconst (v := 1) hx hb dJ16_add_2_197 (by decide) ?_
          refine lv_aload hx hb dJ16_add_2_198 (lv_at hl 1 rfl) ?_
          refine r_alen hx hb hS had8 dJ16_add_2_200 ?_
          obtain ⟨i94, xi94, h⟩ := gd_step (nl1 (le_of_gl xn9 (by decide))) h
          obtain ⟨i95, xi95, h⟩ := gd_step (nl1 (le_of_gl xn93 (by decide))) h
          obtain ⟨i96, xi96, h⟩ := gd_step (nl1 (le_of_gl xn9 (by decide))) h
          obtain ⟨b97, h⟩ := ask_step h
          rw [Bool.and_eq_true] at b97
          obtain ⟨f98, ef98, h⟩ := lt_step h
          refine r_copyI hC hS had8 had92 hB_had92 xi94 xi95 xi96 (Nat.le_of_ble_eq_true b97.1) (Nat.le_of_ble_eq_true b97.2) q461 q463 q462 q58 hl.1 ⟨Nat.le_of_ble_eq_true rfl, Nat.le_of_ble_eq_true rfl⟩ dJ16_add_2_201 (fun H locs hS hO had92 => ?_)
          have had92 : aI D ad92 n93 f98 H := by rw [ef98]; exact had92
          have h_x0 := h_x0.off hO ne_h_x0_had92
          have h_x1 := h_x1.off hO ne_h_x1_had92
          have had8 := had8.off hO ne_had8_had92
          have hF := hF.fresh hO (fun a ha z => absurd (z ▸ ha) (Nat.not_lt.mpr gad92))
          refine lv_aload hx hb dJ16_add_2_204 (lv_at hl 0 rfl) ?_
          refine lv_iconst (v := 0) hx hb dJ16_add_2_206 (by decide) ?_
          refine lv_iconst (v := 1) hx hb dJ16_add_2_207 (by decide) ?_
          obtain ⟨i99, xi99, h⟩ := gd_step (nl0 (le_of_gl xn93 (by decide))) h
          obtain ⟨f100, ef100, h⟩ := lt_step h
          refine r_iast hx hb hS had92 hB_had92 i99 xi99 dJ16_add_2_208 (fun H locs hS hO had92 => ?_)
          have had92 : aI D ad92 n93 f100 H := by rw [ef100]; exact had92
          have h_x0 := h_x0.off hO ne_h_x0_had92
          have h_x1 := h_x1.off hO ne_h_x1_had92
          have had8 := had8.off hO ne_had8_had92
          have hF := hF.fresh hO (fun a ha z => absurd (z ▸ ha) (Nat.not_lt.mpr gad92))
          refine lv_aload hx hb dJ16_add_2_209 (lv_at hl 0 rfl) ?_
          obtain rfl := Option.some.inj h
          rw [eQ]
          exact r_aret hx hb hr (Or.inr ⟨_, rfl⟩) hlk hS (Nat.le_of_ble_eq_true rfl) (Nat.le_of_ble_eq_true rfl) dJ16_add_2_211 ⟨_, rfl, had92, (le_of_gl xn93 (by decide)), gad92, hF⟩
    clear eK13
    refine lv_icmp_ne (tgt := 64) hx hb dJ16_add_2_29 (by decide) (fun c101 => ?_) (fun c101 => ?_)
    · have h := it_neg h c101
      obtain ⟨F126, eF126, h⟩ := lt_step h
      obtain ⟨w127, ew127, h⟩ := bind_step h
      have HL : ∀ (n : Nat) (v102 : Int32) (v103 : Int32) (f104 : Nat → Int32) (v105 : Int64) (w127 : Int32 × (Nat → Int32) × Int64) (hk0 : lp n (fun x => F126 x.1 x.2.1 x.2.2.1 x.2.2.2) (v102, v103, f104, v105) = some w127)  (H : Heap) (locs : List Loc) (hS : St D s H locs) (hF : Off (fun _ => False) s.heap H) (h_x0 : aI D x0 x0n x0c H) (h_x1 : aI D x1 x1n x1c H) (had1 : aI D ad1 n2 f3 H) (had4 : aI D ad4 n5 f6 H) (had8 : aI D ad8 n9 f104 H) (ls : Array Slot) (hl : lv_has ls 9 [(0, .ref ad1), (1, .ref ad4), (2, .int v102), (3, .int v103), (4, .ref ad8), (5, .long v105)]) (K109 : ∀ (H : Heap) (locs : List Loc) (hS : St D s H locs) (hF : Off (fun _ => False) s.heap H) (h_x0 : aI D x0 x0n x0c H) (h_x1 : aI D x1 x1n x1c H) (had1 : aI D ad1 n2 f3 H) (had8 : aI D ad8 n9 w127.2.1 H) (ls : Array Slot) (hl : lv_has ls 9 [(0, .ref ad1), (2, .int w127.1), (4, .ref ad8), (5, .long w127.2.2)]), W p l e R_J16_add_2 s m A below meth c H locs 1 12 Q (F0 m 109 ls [])), W p l e R_J16_add_2 s m A below meth c H locs 1 12 Q (F0 m 64 ls []) := by
        intro n
        induction n with
        | zero => intro v102 v103 f104 v105 w127 hk0  H locs hS hF h_x0 h_x1 had1 had4 had8 ls hl K109; exact lp_zero hk0
        | succ n ih =>
          intro v102 v103 f104 v105 w127 hk0  H locs hS hF h_x0 h_x1 had1 had4 had8 ls hl K109
          obtain ⟨z128, hz, hk⟩ := lp_step hk0
          have h := (congrFun (congrFun (congrFun (congrFun (eF126) v102) v103) f104) v105).symm.trans hz
          refine lv_iload_n hx hb dJ16_add_2_64 rfl (lv_at hl 3 rfl) ?_
          refine lv_if_le (tgt := 109) hx hb dJ16_add_2_65 (by decide) (fun c129 => ?_) (fun c129 => ?_)
          · have h := it_pos h c129
            obtain rfl := Option.some.inj h
            obtain rfl := id hk
            exact K109 H locs hS hF h_x0 h_x1 had1 had8 ls (lv_sub hl [0, 2, 4, 5] rfl)
          · have h := it_neg h c129
            refine lv_aload_n hx hb dJ16_add_2_68 rfl (lv_at hl 0 rfl) ?_
            obtain ⟨v130, ev130, h⟩ := lti_step h
            refine lv_iinc (v := v130) (lv' := [(2, .int v130), (0, .ref ad1), (1, .ref ad4), (3, .int v103), (4, .ref ad8), (5, .long v105)]) hx hb dJ16_add_2_69 hl (k := 2) rfl (by rw [ev130]; rfl) (by decide) rfl (fun ls hl => ?_)
            refine lv_iload_n hx hb dJ16_add_2_72 rfl (lv_at hl 0 rfl) ?_
            obtain ⟨i131, xi131, h⟩ := gd_step (nl0 ln2) h
            refine r_iald hx hb hS had1 i131 xi131 dJ16_add_2_73 ?_
            obtain ⟨v132, ev132, h⟩ := lti_step h
            refine r_nmI ev132 ?_
            obtain ⟨v133, ev133, h⟩ := ltl_step h
            refine r_i2l hx hb ev133 dJ16_add_2_74 ?_
            refine lv_ldc2 hx hb (v := 4294967295) hown (hts _ q775) dJ16_add_2_75 ?_
            obtain ⟨v134, ev134, h⟩ := ltl_step h
            refine r_land hx hb ev134 dJ16_add_2_78 ?_
            refine lv_aload_n hx hb dJ16_add_2_79 rfl (lv_at hl 2 rfl) ?_
            obtain ⟨v135, ev135, h⟩ := lti_step h
            refine lv_iinc (v := v135) (lv' := [(3, .int v135), (2, .int v130), (0, .ref ad1), (1, .ref ad4), (4, .ref ad8), (5, .long v105)]) hx hb dJ16_add_2_80 hl (k := 3) rfl (by rw [ev135]; rfl) (by decide) rfl (fun ls hl => ?_)
            refine lv_iload_n hx hb dJ16_add_2_83 rfl (lv_at hl 0 rfl) ?_
            obtain ⟨i136, xi136, h⟩ := gd_step (nl0 ln5) h
            refine r_iald hx hb hS had4 i136 xi136 dJ16_add_2_84 ?_
            obtain ⟨v137, ev137, h⟩ := lti_step h
            refine r_nmI ev137 ?_
            obtain ⟨v138, ev138, h⟩ := ltl_step h
            refine r_i2l hx hb ev138 dJ16_add_2_85 ?_
            refine lv_ldc2 hx hb (v := 4294967295) hown (hts _ q775) dJ16_add_2_86 ?_
            obtain ⟨v139, ev139, h⟩ := ltl_step h
            refine r_land hx hb ev139 dJ16_add_2_89 ?_
            obtain ⟨v140, ev140, h⟩ := ltl_step h
            refine r_ladd hx hb ev140 dJ16_add_2_90 ?_
            refine lv_lload hx hb dJ16_add_2_91 (lv_at hl 5 rfl) ?_
            refine lv_bipush (v := 32) hx hb dJ16_add_2_93 (by decide) ?_
            obtain ⟨v141, ev141, h⟩ := ltl_step h
            refine r_lushr hx hb ev141 dJ16_add_2_95 ?_
            obtain ⟨v142, ev142, h⟩ := ltl_step h
            refine r_ladd hx hb ev142 dJ16_add_2_96 ?_
            refine lv_lstore (lv' := [(5, .long v142), (3, .int v135), (2, .int v130), (0, .ref ad1), (1, .ref ad4), (4, .ref ad8)]) hx hb dJ16_add_2_97 hl (by decide) rfl (fun ls hl => ?_)
            refine lv_aload hx hb dJ16_add_2_99 (lv_at hl 5 rfl) ?_
            refine lv_iload_n hx hb dJ16_add_2_101 rfl (lv_at hl 2 rfl) ?_
            refine lv_lload hx hb dJ16_add_2_102 (lv_at hl 0 rfl) ?_
            obtain ⟨v143, ev143, h⟩ := lti_step h
            refine r_l2i hx hb ev143 dJ16_add_2_104 ?_
            obtain ⟨i144, xi144, h⟩ := gd_step (nl0 (le_of_gl xn9 (by decide))) h
            obtain ⟨f145, ef145, h⟩ := lt_step h
            refine r_iast hx hb hS had8 hB_had8 i144 xi144 dJ16_add_2_105 (fun H locs hS hO had8 => ?_)
            have had8 : aI D ad8 n9 f145 H := by rw [ef145]; exact had8
            have h_x0 := h_x0.off hO ne_h_x0_had8
            have h_x1 := h_x1.off hO ne_h_x1_had8
            have had1 := had1.off hO ne_had1_had8
            have had4 := had4.off hO ne_had4_had8
            have hF := hF.fresh hO (fun a ha z => absurd (z ▸ ha) (Nat.not_lt.mpr gad8))
            refine lv_goto (tgt := 64) hx hb dJ16_add_2_106 (by decide) ?_
            obtain rfl := Option.some.inj h
            exact ih v130 v135 f145 v142 w127 hk  H locs hS hF h_x0 h_x1 had1 had4 had8 ls (lv_sub hl [3, 4, 2, 1, 5, 0] rfl) K109
      clear eF126
      refine HL 41 (nI n2) (nI n5) (fun _ => 0) 0 w127 ew127  H locs hS hF h_x0 h_x1 had1 had4 had8 ls (lv_sub hl [4, 5, 3, 2, 1, 0] rfl) (fun  H locs hS hF h_x0 h_x1 had1 had8 ls hl => ?_)
      exact HK13 w127.1 w127.2.1 w127.2.2 h H locs hS hF h_x0 h_x1 had1 had8 ls (lv_sub hl [0, 1, 2, 3] rfl)
    · have h := it_pos h c101
      refine lv_aload_n hx hb dJ16_add_2_32 rfl (lv_at hl 4 rfl) ?_
      obtain ⟨v146, ev146, h⟩ := lti_step h
      refine lv_iinc (v := v146) (lv' := [(2, .int v146), (5, .long 0), (4, .ref ad8), (3, .int (nI n5)), (0, .ref ad1), (1, .ref ad4)]) hx hb dJ16_add_2_33 hl (k := 3) rfl (by rw [ev146]; rfl) (by decide) rfl (fun ls hl => ?_)
      refine lv_iload_n hx hb dJ16_add_2_36 rfl (lv_at hl 0 rfl) ?_
      obtain ⟨i147, xi147, h⟩ := gd_step (nl0 ln2) h
      refine r_iald hx hb hS had1 i147 xi147 dJ16_add_2_37 ?_
      obtain ⟨v148, ev148, h⟩ := lti_step h
      refine r_nmI ev148 ?_
      obtain ⟨v149, ev149, h⟩ := ltl_step h
      refine r_i2l hx hb ev149 dJ16_add_2_38 ?_
      refine lv_ldc2 hx hb (v := 4294967295) hown (hts _ q775) dJ16_add_2_39 ?_
      obtain ⟨v150, ev150, h⟩ := ltl_step h
      refine r_land hx hb ev150 dJ16_add_2_42 ?_
      refine lv_aload_n hx hb dJ16_add_2_43 rfl (lv_at hl 5 rfl) ?_
      refine lv_iconst (v := 0) hx hb dJ16_add_2_44 (by decide) ?_
      obtain ⟨i151, xi151, h⟩ := gd_step (nl0 ln5) h
      refine r_iald hx hb hS had4 i151 xi151 dJ16_add_2_45 ?_
      obtain ⟨v152, ev152, h⟩ := lti_step h
      refine r_nmI ev152 ?_
      obtain ⟨v153, ev153, h⟩ := ltl_step h
      refine r_i2l hx hb ev153 dJ16_add_2_46 ?_
      refine lv_ldc2 hx hb (v := 4294967295) hown (hts _ q775) dJ16_add_2_47 ?_
      obtain ⟨v154, ev154, h⟩ := ltl_step h
      refine r_land hx hb ev154 dJ16_add_2_50 ?_
      obtain ⟨v155, ev155, h⟩ := ltl_step h
      refine r_ladd hx hb ev155 dJ16_add_2_51 ?_
      refine lv_lstore (lv' := [(5, .long v155), (2, .int v146), (4, .ref ad8), (3, .int (nI n5)), (0, .ref ad1), (1, .ref ad4)]) hx hb dJ16_add_2_52 hl (by decide) rfl (fun ls hl => ?_)
      refine lv_aload hx hb dJ16_add_2_54 (lv_at hl 2 rfl) ?_
      refine lv_iload_n hx hb dJ16_add_2_56 rfl (lv_at hl 1 rfl) ?_
      refine lv_lload hx hb dJ16_add_2_57 (lv_at hl 0 rfl) ?_
      obtain ⟨v156, ev156, h⟩ := lti_step h
      refine r_l2i hx hb ev156 dJ16_add_2_59 ?_
      obtain ⟨i157, xi157, h⟩ := gd_step (nl0 (le_of_gl xn9 (by decide))) h
      obtain ⟨f158, ef158, h⟩ := lt_step h
      refine r_iast hx hb hS had8 hB_had8 i157 xi157 dJ16_add_2_60 (fun H locs hS hO had8 => ?_)
      have had8 : aI D ad8 n9 f158 H := by rw [ef158]; exact had8
      have h_x0 := h_x0.off hO ne_h_x0_had8
      have h_x1 := h_x1.off hO ne_h_x1_had8
      have had1 := had1.off hO ne_had1_had8
      have had4 := had4.off hO ne_had4_had8
      have hF := hF.fresh hO (fun a ha z => absurd (z ▸ ha) (Nat.not_lt.mpr gad8))
      refine lv_goto (tgt := 109) hx hb dJ16_add_2_61 (by decide) ?_
      exact HK13 v146 f158 v155 h H locs hS hF h_x0 h_x1 had1 had8 ls (lv_sub hl [4, 1, 2, 0] rfl)
  clear eK7
  refine lv_icmp_ge (tgt := 13) hx hb dJ16_add_2_4 (by decide) (fun c159 => ?_) (fun c159 => ?_)
  · have h := it_pos h c159
    exact HK7 x0n x0c x1n x1c h x0 x1 l_x0 l_x1 H locs hS hF h_x0 h_x1 h_x0 h_x1 ls (lv_sub hl [0, 1] rfl)
  · have h := it_neg h c159
    refine lv_aload_n hx hb dJ16_add_2_7 rfl (lv_at hl 0 rfl) ?_
    refine lv_astore_n (lv' := [(2, .ref x0), (0, .ref x0), (1, .ref x1)]) hx hb dJ16_add_2_8 rfl hl (by decide) rfl (fun ls hl => ?_)
    refine lv_aload_n hx hb dJ16_add_2_9 rfl (lv_at hl 2 rfl) ?_
    refine lv_astore_n (lv' := [(0, .ref x1), (2, .ref x0), (1, .ref x1)]) hx hb dJ16_add_2_10 rfl hl (by decide) rfl (fun ls hl => ?_)
    refine lv_aload_n hx hb dJ16_add_2_11 rfl (lv_at hl 1 rfl) ?_
    refine lv_astore_n (lv' := [(1, .ref x0), (0, .ref x1), (2, .ref x0)]) hx hb dJ16_add_2_12 rfl hl (by decide) rfl (fun ls hl => ?_)
    exact HK7 x1n x1c x0n x0c h x1 x0 l_x1 l_x0 H locs hS hF h_x0 h_x1 h_x1 h_x0 ls (lv_sub hl [1, 0] rfl)

abbrev R_J16_subtract : Room := { frames := 0, cells := 1, slots := 12, locals := 0 }
noncomputable def f_J16_subtract (x0n : Nat) (x0c : Nat → Int32) (x1n : Nat) (x1c : Nat → Int32) : Option (Nat × (Nat → Int32)) :=
  gl 12 (nI x0n) fun n2 =>
  lt (fun (v3 : Int32) (f4 : Nat → Int32) (v5 : Int32) (v6 : Int64) =>
  (show Option (Sum (Int32 × (Nat → Int32) × Int32 × Int64) (Int32 × (Nat → Int32) × Int64)) from (
  (if v5 ≤ 0 then
    some (.inr (v3, f4, v6))
  else
    lti (v3 + (-1)) fun v31 =>
    gd x0n v31 fun i32 =>
    lti (x0c i32) fun v33 =>
    ltl (v33.toInt64) fun v34 =>
    ltl ((v34 &&& 4294967295 : Int64)) fun v35 =>
    lti (v5 + (-1)) fun v36 =>
    gd x1n v36 fun i37 =>
    lti (x1c i37) fun v38 =>
    ltl (v38.toInt64) fun v39 =>
    ltl ((v39 &&& 4294967295 : Int64)) fun v40 =>
    ltl ((v35 - v40 : Int64)) fun v41 =>
    ltl ((v6 : Int64) >>> ((32 : Int32).toInt64 &&& 63)) fun v42 =>
    ltl ((v41 + v42 : Int64)) fun v43 =>
    lti (v43.toInt32) fun v44 =>
    gd n2 v31 fun i45 =>
    lt (va_up f4 i45 v44) fun f46 =>
    some (.inl (v31, f46, v36, v43))
  )
  ))
  ) fun F27 =>
  Option.bind (lp 41 (fun x => F27 x.1 x.2.1 x.2.2.1 x.2.2.2) ((nI x0n), (fun _ => 0), (nI x1n), 0)) fun w28 =>
  ltl ((w28.2.2 : Int64) >>> ((32 : Int32).toInt64 &&& 63)) fun v47 =>
  lti (lg_cmp v47 0) fun v48 =>
  (if v48 = 0 then
    lt (fun (_u : Unit) =>
    (show Option (Sum (Unit) (Unit)) from (
    (if w28.1 ≤ 0 then
      some (.inr ())
    else
      some (.inr ())
    )
    ))
    ) fun F52 =>
    Option.bind (lp 41 (fun x => F52 x) ()) fun w53 =>
    lt (fun (v57 : Int32) (f58 : Nat → Int32) =>
    (show Option (Sum (Int32 × (Nat → Int32)) ((Nat → Int32))) from (
    (if v57 ≤ 0 then
      some (.inr f58)
    else
      lti (v57 + (-1)) fun v70 =>
      gd x0n v70 fun i71 =>
      lti (x0c i71) fun v72 =>
      gd n2 v70 fun i73 =>
      lt (va_up f58 i73 v72) fun f74 =>
      some (.inl (v70, f74))
    )
    ))
    ) fun F66 =>
    Option.bind (lp 41 (fun x => F66 x.1 x.2) (w28.1, w28.2.1)) fun w67 =>
    some (n2, w67)
  else
    lt (fun (v75 : Int32) (f76 : Nat → Int32) (v77 : Bool) =>
    (show Option (Sum (Int32 × (Nat → Int32) × Bool) (Int32 × (Nat → Int32))) from (
    (if v75 ≤ 0 then
      some (.inr (v75, f76))
    else
      (if v77 = true then
        lti (v75 + (-1)) fun v94 =>
        gd x0n v94 fun i95 =>
        lti (x0c i95) fun v96 =>
        lti (v96 - 1) fun v97 =>
        gd n2 v94 fun i98 =>
        lt (va_up f76 i98 v97) fun f99 =>
        lt (fun (v100 : Bool) =>
        some (.inl (v94, f99, v100))
        ) fun K101 =>
        (if v97 = (-1) then
          K101 true
        else
          K101 false
        )
      else
        some (.inr (v75, f76))
      )
    )
    ))
    ) fun F89 =>
    Option.bind (lp 41 (fun x => F89 x.1 x.2.1 x.2.2) (w28.1, w28.2.1, true)) fun w90 =>
    lt (fun (v103 : Int32) (f104 : Nat → Int32) =>
    (show Option (Sum (Int32 × (Nat → Int32)) ((Nat → Int32))) from (
    (if v103 ≤ 0 then
      some (.inr f104)
    else
      lti (v103 + (-1)) fun v116 =>
      gd x0n v116 fun i117 =>
      lti (x0c i117) fun v118 =>
      gd n2 v116 fun i119 =>
      lt (va_up f104 i119 v118) fun f120 =>
      some (.inl (v116, f120))
    )
    ))
    ) fun F112 =>
    Option.bind (lp 41 (fun x => F112 x.1 x.2) (w90.1, w90.2)) fun w113 =>
    some (n2, w113)
  )
theorem hd_J16_subtract : Hd yJ16_subtract 2 := by unfold Hd; decide +kernel
set_option maxHeartbeats 4000000 in
set_option maxRecDepth 100000 in
theorem m_J16_subtract {l : Launch} {D : DD} (x0 : Nat) (x1 : Nat)  (x0n : Nat) (x0c : Nat → Int32) (x1n : Nat) (x1c : Nat → Int32) (r : Nat × (Nat → Int32)) (h : f_J16_subtract x0n x0c x1n x1c = some r) : MT l D yJ16_subtract cJ16_subtract 8 (some (.array .int)) 0 0 1 12 [.ref x0, .ref x1] (fun H => aI D x0 x0n x0c H ∧ x0n ≤ 1000000 ∧ aI D x1 x1n x1c H ∧ x1n ≤ 1000000) (pR (fun H b H' => aI D b r.1 r.2 H' ∧ r.1 ≤ 1000000 ∧ H.size ≤ b ∧ Off (fun _ => False) H H')) := by
  refine MT.start (by decide +kernel) (Nat.le_of_ble_eq_true rfl) ?_
  intro p e s m below meth c ls hC hS hp hl
  obtain ⟨h_x0, l_x0, h_x1, l_x1⟩ := hp
  obtain ⟨hx, hb, hr, hlk, hml, hown, hts, hnm⟩ := id hC
  have hl : lv_has ls 8 [(0, .ref x0), (1, .ref x1)] := hl
  unfold f_J16_subtract at h
  have hS0 := hS
  obtain ⟨A, eA⟩ : ∃ A : Array Value, A = [.ref x0, .ref x1].toArray := ⟨_, rfl⟩
  rw [← eA] at hC hts ⊢
  obtain ⟨Q, eQ⟩ : ∃ Q : State → Prop, Q = MQ below (TQ D (pR (fun H b H' => aI D b r.1 r.2 H' ∧ r.1 ≤ 1000000 ∧ H.size ≤ b ∧ Off (fun _ => False) H H'))) A s 1 12 (fun q => dB D ≤ q) := ⟨_, rfl⟩
  have hF : Off (fun _ => False) s.heap s.heap := Off.rf
  show W p l e R_J16_subtract s m A below meth c s.heap [] 0 0 _ _
  rw [← eQ]
  obtain ⟨H, eH⟩ : ∃ H : Heap, H = s.heap := ⟨_, rfl⟩
  obtain ⟨locs, eLc⟩ : ∃ L : List Loc, L = [] := ⟨_, rfl⟩
  have lt_h_x0 := h_x0.lt
  have lt_h_x1 := h_x1.lt
  rw [← eH, ← eLc]
  have hF : Off (fun _ => False) s.heap H := by rw [eH]; exact hF
  rw [← eH] at h_x0
  rw [← eH] at h_x1
  have hS : St D s H locs := by rw [eH, eLc]; exact hS
  refine lv_aload_n hx hb dJ16_subtract_0 rfl (lv_at hl 0 rfl) ?_
  refine r_alen hx hb hS h_x0 dJ16_subtract_1 ?_
  refine lv_istore_n (lv' := [(2, .int (nI x0n)), (0, .ref x0), (1, .ref x1)]) hx hb dJ16_subtract_2 rfl hl (by decide) rfl (fun ls hl => ?_)
  refine lv_iload_n hx hb dJ16_subtract_3 rfl (lv_at hl 0 rfl) ?_
  obtain ⟨n2, xn2, h⟩ := gl_step (by decide) h
  refine r_newaB hx hb hts hS (ty := .int) rfl q453 12 n2 xn2 (by decide) (by decide) (Nat.le_of_ble_eq_true rfl) (Nat.le_of_ble_eq_true rfl) dJ16_subtract_4 (fun ad1 H eq_ad1 hS hE had1 z_ad1 hB_had1 => ?_)
  have had1 : aI D ad1 n2 (fun _ => 0) H := had1
  have gad1 : s.heap.size ≤ ad1 := by have := hF.1; omega
  have ne_h_x0_had1 : x0 ≠ ad1 := by have := h_x0.lt; omega
  have h_x0 := h_x0.ext hE
  have ne_h_x1_had1 : x1 ≠ ad1 := by have := h_x1.lt; omega
  have h_x1 := h_x1.ext hE
  have hF := hF.trans (hE.mono (fun _ _ z => z.elim))
  refine lv_astore_n (lv' := [(3, .ref ad1), (2, .int (nI x0n)), (0, .ref x0), (1, .ref x1)]) hx hb dJ16_subtract_6 rfl hl (by decide) rfl (fun ls hl => ?_)
  refine lv_aload_n hx hb dJ16_subtract_7 rfl (lv_at hl 3 rfl) ?_
  refine r_alen hx hb hS h_x1 dJ16_subtract_8 ?_
  refine lv_istore (lv' := [(4, .int (nI x1n)), (3, .ref ad1), (2, .int (nI x0n)), (0, .ref x0), (1, .ref x1)]) hx hb dJ16_subtract_9 hl (by decide) rfl (fun ls hl => ?_)
  refine lv_lconst (v := 0) hx hb dJ16_subtract_11 rfl ?_
  refine lv_lstore (lv' := [(5, .long 0), (4, .int (nI x1n)), (3, .ref ad1), (2, .int (nI x0n)), (0, .ref x0), (1, .ref x1)]) hx hb dJ16_subtract_12 hl (by decide) rfl (fun ls hl => ?_)
  obtain ⟨F27, eF27, h⟩ := lt_step h
  obtain ⟨w28, ew28, h⟩ := bind_step h
  have HL : ∀ (n : Nat) (v3 : Int32) (f4 : Nat → Int32) (v5 : Int32) (v6 : Int64) (w28 : Int32 × (Nat → Int32) × Int64) (hk0 : lp n (fun x => F27 x.1 x.2.1 x.2.2.1 x.2.2.2) (v3, f4, v5, v6) = some w28)  (H : Heap) (locs : List Loc) (hS : St D s H locs) (hF : Off (fun _ => False) s.heap H) (h_x0 : aI D x0 x0n x0c H) (h_x1 : aI D x1 x1n x1c H) (had1 : aI D ad1 n2 f4 H) (ls : Array Slot) (hl : lv_has ls 8 [(0, .ref x0), (1, .ref x1), (2, .int v3), (3, .ref ad1), (4, .int v5), (5, .long v6)]) (K60 : ∀ (H : Heap) (locs : List Loc) (hS : St D s H locs) (hF : Off (fun _ => False) s.heap H) (h_x0 : aI D x0 x0n x0c H) (h_x1 : aI D x1 x1n x1c H) (had1 : aI D ad1 n2 w28.2.1 H) (ls : Array Slot) (hl : lv_has ls 8 [(0, .ref x0), (2, .int w28.1), (3, .ref ad1), (5, .long w28.2.2)]), W p l e R_J16_subtract s m A below meth c H locs 1 12 Q (F0 m 60 ls [])), W p l e R_J16_subtract s m A below meth c H locs 1 12 Q (F0 m 14 ls []) := by
    intro n
    induction n with
    | zero => intro v3 f4 v5 v6 w28 hk0  H locs hS hF h_x0 h_x1 had1 ls hl K60; exact lp_zero hk0
    | succ n ih =>
      intro v3 f4 v5 v6 w28 hk0  H locs hS hF h_x0 h_x1 had1 ls hl K60
      obtain ⟨z29, hz, hk⟩ := lp_step hk0
      have h := (congrFun (congrFun (congrFun (congrFun (eF27) v3) f4) v5) v6).symm.trans hz
      refine lv_iload hx hb dJ16_subtract_14 (lv_at hl 4 rfl) ?_
      refine lv_if_le (tgt := 60) hx hb dJ16_subtract_16 (by decide) (fun c30 => ?_) (fun c30 => ?_)
      · have h := it_pos h c30
        obtain rfl := Option.some.inj h
        obtain rfl := id hk
        exact K60 H locs hS hF h_x0 h_x1 had1 ls (lv_sub hl [0, 2, 3, 5] rfl)
      · have h := it_neg h c30
        refine lv_aload_n hx hb dJ16_subtract_19 rfl (lv_at hl 0 rfl) ?_
        obtain ⟨v31, ev31, h⟩ := lti_step h
        refine lv_iinc (v := v31) (lv' := [(2, .int v31), (0, .ref x0), (1, .ref x1), (3, .ref ad1), (4, .int v5), (5, .long v6)]) hx hb dJ16_subtract_20 hl (k := 2) rfl (by rw [ev31]; rfl) (by decide) rfl (fun ls hl => ?_)
        refine lv_iload_n hx hb dJ16_subtract_23 rfl (lv_at hl 0 rfl) ?_
        obtain ⟨i32, xi32, h⟩ := gd_step (nl0 l_x0) h
        refine r_iald hx hb hS h_x0 i32 xi32 dJ16_subtract_24 ?_
        obtain ⟨v33, ev33, h⟩ := lti_step h
        refine r_nmI ev33 ?_
        obtain ⟨v34, ev34, h⟩ := ltl_step h
        refine r_i2l hx hb ev34 dJ16_subtract_25 ?_
        refine lv_ldc2 hx hb (v := 4294967295) hown (hts _ q775) dJ16_subtract_26 ?_
        obtain ⟨v35, ev35, h⟩ := ltl_step h
        refine r_land hx hb ev35 dJ16_subtract_29 ?_
        refine lv_aload_n hx hb dJ16_subtract_30 rfl (lv_at hl 2 rfl) ?_
        obtain ⟨v36, ev36, h⟩ := lti_step h
        refine lv_iinc (v := v36) (lv' := [(4, .int v36), (2, .int v31), (0, .ref x0), (1, .ref x1), (3, .ref ad1), (5, .long v6)]) hx hb dJ16_subtract_31 hl (k := 4) rfl (by rw [ev36]; rfl) (by decide) rfl (fun ls hl => ?_)
        refine lv_iload hx hb dJ16_subtract_34 (lv_at hl 0 rfl) ?_
        obtain ⟨i37, xi37, h⟩ := gd_step (nl0 l_x1) h
        refine r_iald hx hb hS h_x1 i37 xi37 dJ16_subtract_36 ?_
        obtain ⟨v38, ev38, h⟩ := lti_step h
        refine r_nmI ev38 ?_
        obtain ⟨v39, ev39, h⟩ := ltl_step h
        refine r_i2l hx hb ev39 dJ16_subtract_37 ?_
        refine lv_ldc2 hx hb (v := 4294967295) hown (hts _ q775) dJ16_subtract_38 ?_
        obtain ⟨v40, ev40, h⟩ := ltl_step h
        refine r_land hx hb ev40 dJ16_subtract_41 ?_
        obtain ⟨v41, ev41, h⟩ := ltl_step h
        refine r_lsub hx hb ev41 dJ16_subtract_42 ?_
        refine lv_lload hx hb dJ16_subtract_43 (lv_at hl 5 rfl) ?_
        refine lv_bipush (v := 32) hx hb dJ16_subtract_45 (by decide) ?_
        obtain ⟨v42, ev42, h⟩ := ltl_step h
        refine r_lshr hx hb ev42 dJ16_subtract_47 ?_
        obtain ⟨v43, ev43, h⟩ := ltl_step h
        refine r_ladd hx hb ev43 dJ16_subtract_48 ?_
        refine lv_lstore (lv' := [(5, .long v43), (4, .int v36), (2, .int v31), (0, .ref x0), (1, .ref x1), (3, .ref ad1)]) hx hb dJ16_subtract_49 hl (by decide) rfl (fun ls hl => ?_)
        refine lv_aload_n hx hb dJ16_subtract_51 rfl (lv_at hl 5 rfl) ?_
        refine lv_iload_n hx hb dJ16_subtract_52 rfl (lv_at hl 2 rfl) ?_
        refine lv_lload hx hb dJ16_subtract_53 (lv_at hl 0 rfl) ?_
        obtain ⟨v44, ev44, h⟩ := lti_step h
        refine r_l2i hx hb ev44 dJ16_subtract_55 ?_
        obtain ⟨i45, xi45, h⟩ := gd_step (nl0 (le_of_gl xn2 (by decide))) h
        obtain ⟨f46, ef46, h⟩ := lt_step h
        refine r_iast hx hb hS had1 hB_had1 i45 xi45 dJ16_subtract_56 (fun H locs hS hO had1 => ?_)
        have had1 : aI D ad1 n2 f46 H := by rw [ef46]; exact had1
        have h_x0 := h_x0.off hO ne_h_x0_had1
        have h_x1 := h_x1.off hO ne_h_x1_had1
        have hF := hF.fresh hO (fun a ha z => absurd (z ▸ ha) (Nat.not_lt.mpr gad1))
        refine lv_goto (tgt := 14) hx hb dJ16_subtract_57 (by decide) ?_
        obtain rfl := Option.some.inj h
        exact ih v31 f46 v36 v43 w28 hk  H locs hS hF h_x0 h_x1 had1 ls (lv_sub hl [3, 4, 2, 5, 1, 0] rfl) K60
  clear eF27
  refine HL 41 (nI x0n) (fun _ => 0) (nI x1n) 0 w28 ew28  H locs hS hF h_x0 h_x1 had1 ls (lv_sub hl [4, 5, 3, 2, 1, 0] rfl) (fun  H locs hS hF h_x0 h_x1 had1 ls hl => ?_)
  refine lv_lload hx hb dJ16_subtract_60 (lv_at hl 3 rfl) ?_
  refine lv_bipush (v := 32) hx hb dJ16_subtract_62 (by decide) ?_
  obtain ⟨v47, ev47, h⟩ := ltl_step h
  refine r_lshr hx hb ev47 dJ16_subtract_64 ?_
  refine lv_lconst (v := 0) hx hb dJ16_subtract_65 rfl ?_
  obtain ⟨v48, ev48, h⟩ := lti_step h
  refine r_lcmp hx hb ev48 dJ16_subtract_66 ?_
  refine lv_if_eq (tgt := 74) hx hb dJ16_subtract_67 (by decide) (fun c49 => ?_) (fun c49 => ?_)
  · have h := it_pos h c49
    refine lv_iconst (v := 0) hx hb dJ16_subtract_74 (by decide) ?_
    refine lv_istore (lv' := [(7, .int 0), (0, .ref x0), (2, .int w28.1), (3, .ref ad1), (5, .long w28.2.2)]) hx hb dJ16_subtract_75 hl (by decide) rfl (fun ls hl => ?_)
    obtain ⟨F52, eF52, h⟩ := lt_step h
    obtain ⟨w53, ew53, h⟩ := bind_step h
    have HL : ∀ (n : Nat)  (w53 : Unit) (hk0 : lp n (fun x => F52 x) () = some w53)  (H : Heap) (locs : List Loc) (hS : St D s H locs) (hF : Off (fun _ => False) s.heap H) (h_x0 : aI D x0 x0n x0c H) (h_x1 : aI D x1 x1n x1c H) (had1 : aI D ad1 n2 w28.2.1 H) (ls : Array Slot) (hl : lv_has ls 8 [(0, .ref x0), (2, .int w28.1), (3, .ref ad1), (7, .int 0)]) (K112 : ∀ (H : Heap) (locs : List Loc) (hS : St D s H locs) (hF : Off (fun _ => False) s.heap H) (h_x0 : aI D x0 x0n x0c H) (h_x1 : aI D x1 x1n x1c H) (had1 : aI D ad1 n2 w28.2.1 H) (ls : Array Slot) (hl : lv_has ls 8 [(0, .ref x0), (2, .int w28.1), (3, .ref ad1)]), W p l e R_J16_subtract s m A below meth c H locs 1 12 Q (F0 m 112 ls [])), W p l e R_J16_subtract s m A below meth c H locs 1 12 Q (F0 m 77 ls []) := by
      intro n
      induction n with
      | zero => intro  w53 hk0  H locs hS hF h_x0 h_x1 had1 ls hl K112; exact lp_zero hk0
      | succ n ih =>
        intro  w53 hk0  H locs hS hF h_x0 h_x1 had1 ls hl K112
        obtain ⟨z54, hz, hk⟩ := lp_step hk0
        have h := (congrFun (eF52) ()).symm.trans hz
        refine lv_iload_n hx hb dJ16_subtract_77 rfl (lv_at hl 1 rfl) ?_
        refine lv_if_le (tgt := 112) hx hb dJ16_subtract_78 (by decide) (fun c55 => ?_) (fun c55 => ?_)
        · have h := it_pos h c55
          obtain rfl := Option.some.inj h
          obtain rfl := id hk
          exact K112 H locs hS hF h_x0 h_x1 had1 ls (lv_sub hl [0, 1, 2] rfl)
        · have h := it_neg h c55
          refine lv_iload hx hb dJ16_subtract_81 (lv_at hl 3 rfl) ?_
          refine lv_if_eq (tgt := 112) hx hb dJ16_subtract_83 (by decide) (fun c56 => ?_) (fun c56 => ?_)
          rotate_left
          · exact absurd c56 (by decide)
          obtain rfl := Option.some.inj h
          obtain rfl := id hk
          exact K112 H locs hS hF h_x0 h_x1 had1 ls (lv_sub hl [0, 1, 2] rfl)
    clear eF52
    refine HL 41  w53 ew53  H locs hS hF h_x0 h_x1 had1 ls (lv_sub hl [1, 2, 3, 0] rfl) (fun  H locs hS hF h_x0 h_x1 had1 ls hl => ?_)
    obtain ⟨F66, eF66, h⟩ := lt_step h
    obtain ⟨w67, ew67, h⟩ := bind_step h
    have HL : ∀ (n : Nat) (v57 : Int32) (f58 : Nat → Int32) (w67 : (Nat → Int32)) (hk0 : lp n (fun x => F66 x.1 x.2) (v57, f58) = some w67)  (H : Heap) (locs : List Loc) (hS : St D s H locs) (hF : Off (fun _ => False) s.heap H) (h_x0 : aI D x0 x0n x0c H) (h_x1 : aI D x1 x1n x1c H) (had1 : aI D ad1 n2 f58 H) (ls : Array Slot) (hl : lv_has ls 8 [(0, .ref x0), (2, .int v57), (3, .ref ad1)]) (K128 : ∀ (H : Heap) (locs : List Loc) (hS : St D s H locs) (hF : Off (fun _ => False) s.heap H) (h_x0 : aI D x0 x0n x0c H) (h_x1 : aI D x1 x1n x1c H) (had1 : aI D ad1 n2 w67 H) (ls : Array Slot) (hl : lv_has ls 8 [(3, .ref ad1)]), W p l e R_J16_subtract s m A below meth c H locs 1 12 Q (F0 m 128 ls [])), W p l e R_J16_subtract s m A below meth c H locs 1 12 Q (F0 m 112 ls []) := by
      intro n
      induction n with
      | zero => intro v57 f58 w67 hk0  H locs hS hF h_x0 h_x1 had1 ls hl K128; exact lp_zero hk0
      | succ n ih =>
        intro v57 f58 w67 hk0  H locs hS hF h_x0 h_x1 had1 ls hl K128
        obtain ⟨z68, hz, hk⟩ := lp_step hk0
        have h := (congrFun (congrFun (eF66) v57) f58).symm.trans hz
        refine lv_iload_n hx hb dJ16_subtract_112 rfl (lv_at hl 1 rfl) ?_
        refine lv_if_le (tgt := 128) hx hb dJ16_subtract_113 (by decide) (fun c69 => ?_) (fun c69 => ?_)
        · have h := it_pos h c69
          obtain rfl := Option.some.inj h
          obtain rfl := id hk
          exact K128 H locs hS hF h_x0 h_x1 had1 ls (lv_sub hl [2] rfl)
        · have h := it_neg h c69
          refine lv_aload_n hx hb dJ16_subtract_116 rfl (lv_at hl 2 rfl) ?_
          obtain ⟨v70, ev70, h⟩ := lti_step h
          refine lv_iinc (v := v70) (lv' := [(2, .int v70), (0, .ref x0), (3, .ref ad1)]) hx hb dJ16_subtract_117 hl (k := 1) rfl (by rw [ev70]; rfl) (by decide) rfl (fun ls hl => ?_)
          refine lv_iload_n hx hb dJ16_subtract_120 rfl (lv_at hl 0 rfl) ?_
          refine lv_aload_n hx hb dJ16_subtract_121 rfl (lv_at hl 1 rfl) ?_
          refine lv_iload_n hx hb dJ16_subtract_122 rfl (lv_at hl 0 rfl) ?_
          obtain ⟨i71, xi71, h⟩ := gd_step (nl0 l_x0) h
          refine r_iald hx hb hS h_x0 i71 xi71 dJ16_subtract_123 ?_
          obtain ⟨v72, ev72, h⟩ := lti_step h
          refine r_nmI ev72 ?_
          obtain ⟨i73, xi73, h⟩ := gd_step (nl0 (le_of_gl xn2 (by decide))) h
          obtain ⟨f74, ef74, h⟩ := lt_step h
          refine r_iast hx hb hS had1 hB_had1 i73 xi73 dJ16_subtract_124 (fun H locs hS hO had1 => ?_)
          have had1 : aI D ad1 n2 f74 H := by rw [ef74]; exact had1
          have h_x0 := h_x0.off hO ne_h_x0_had1
          have h_x1 := h_x1.off hO ne_h_x1_had1
          have hF := hF.fresh hO (fun a ha z => absurd (z ▸ ha) (Nat.not_lt.mpr gad1))
          refine lv_goto (tgt := 112) hx hb dJ16_subtract_125 (by decide) ?_
          obtain rfl := Option.some.inj h
          exact ih v70 f74 w67 hk  H locs hS hF h_x0 h_x1 had1 ls (lv_sub hl [1, 0, 2] rfl) K128
    clear eF66
    refine HL 41 w28.1 w28.2.1 w67 ew67  H locs hS hF h_x0 h_x1 had1 ls (lv_sub hl [0, 1, 2] rfl) (fun  H locs hS hF h_x0 h_x1 had1 ls hl => ?_)
    refine lv_aload_n hx hb dJ16_subtract_128 rfl (lv_at hl 0 rfl) ?_
    obtain rfl := Option.some.inj h
    rw [eQ]
    exact r_aret hx hb hr (Or.inr ⟨_, rfl⟩) hlk hS (Nat.le_of_ble_eq_true rfl) (Nat.le_of_ble_eq_true rfl) dJ16_subtract_129 ⟨_, rfl, had1, (le_of_gl xn2 (by decide)), gad1, hF⟩
  · have h := it_neg h c49
    refine lv_iconst (v := 1) hx hb dJ16_subtract_70 (by decide) ?_
    refine lv_goto (tgt := 75) hx hb dJ16_subtract_71 (by decide) ?_
    refine lv_istore (lv' := [(7, .int 1), (0, .ref x0), (2, .int w28.1), (3, .ref ad1), (5, .long w28.2.2)]) hx hb dJ16_subtract_75 hl (by decide) rfl (fun ls hl => ?_)
    obtain ⟨F89, eF89, h⟩ := lt_step h
    obtain ⟨w90, ew90, h⟩ := bind_step h
    have HL : ∀ (n : Nat) (v75 : Int32) (f76 : Nat → Int32) (v77 : Bool) (w90 : Int32 × (Nat → Int32)) (hk0 : lp n (fun x => F89 x.1 x.2.1 x.2.2) (v75, f76, v77) = some w90)  (H : Heap) (locs : List Loc) (hS : St D s H locs) (hF : Off (fun _ => False) s.heap H) (h_x0 : aI D x0 x0n x0c H) (h_x1 : aI D x1 x1n x1c H) (had1 : aI D ad1 n2 f76 H) (ls : Array Slot) (hl : lv_has ls 8 [(0, .ref x0), (2, .int v75), (3, .ref ad1), (7, .int (bI v77))]) (K112 : ∀ (H : Heap) (locs : List Loc) (hS : St D s H locs) (hF : Off (fun _ => False) s.heap H) (h_x0 : aI D x0 x0n x0c H) (h_x1 : aI D x1 x1n x1c H) (had1 : aI D ad1 n2 w90.2 H) (ls : Array Slot) (hl : lv_has ls 8 [(0, .ref x0), (2, .int w90.1), (3, .ref ad1)]), W p l e R_J16_subtract s m A below meth c H locs 1 12 Q (F0 m 112 ls [])), W p l e R_J16_subtract s m A below meth c H locs 1 12 Q (F0 m 77 ls []) := by
      intro n
      induction n with
      | zero => intro v75 f76 v77 w90 hk0  H locs hS hF h_x0 h_x1 had1 ls hl K112; exact lp_zero hk0
      | succ n ih =>
        intro v75 f76 v77 w90 hk0  H locs hS hF h_x0 h_x1 had1 ls hl K112
        obtain ⟨z91, hz, hk⟩ := lp_step hk0
        have h := (congrFun (congrFun (congrFun (eF89) v75) f76) v77).symm.trans hz
        refine lv_iload_n hx hb dJ16_subtract_77 rfl (lv_at hl 1 rfl) ?_
        refine lv_if_le (tgt := 112) hx hb dJ16_subtract_78 (by decide) (fun c92 => ?_) (fun c92 => ?_)
        · have h := it_pos h c92
          obtain rfl := Option.some.inj h
          obtain rfl := id hk
          exact K112 H locs hS hF h_x0 h_x1 had1 ls (lv_sub hl [0, 1, 2] rfl)
        · have h := it_neg h c92
          refine lv_iload hx hb dJ16_subtract_81 (lv_at hl 3 rfl) ?_
          refine r_ifz_eq (tgt := 112) hx hb dJ16_subtract_83 (by decide) (fun c93 => ?_) (fun c93 => ?_)
          · have h := it_neg h (by rw [c93]; decide)
            obtain rfl := Option.some.inj h
            obtain rfl := id hk
            exact K112 H locs hS hF h_x0 h_x1 had1 ls (lv_sub hl [0, 1, 2] rfl)
          · have h := it_pos h (by rw [c93])
            refine lv_aload_n hx hb dJ16_subtract_86 rfl (lv_at hl 2 rfl) ?_
            obtain ⟨v94, ev94, h⟩ := lti_step h
            refine lv_iinc (v := v94) (lv' := [(2, .int v94), (0, .ref x0), (3, .ref ad1), (7, .int (bI v77))]) hx hb dJ16_subtract_87 hl (k := 1) rfl (by rw [ev94]; rfl) (by decide) rfl (fun ls hl => ?_)
            refine lv_iload_n hx hb dJ16_subtract_90 rfl (lv_at hl 0 rfl) ?_
            refine lv_aload_n hx hb dJ16_subtract_91 rfl (lv_at hl 1 rfl) ?_
            refine lv_iload_n hx hb dJ16_subtract_92 rfl (lv_at hl 0 rfl) ?_
            obtain ⟨i95, xi95, h⟩ := gd_step (nl0 l_x0) h
            refine r_iald hx hb hS h_x0 i95 xi95 dJ16_subtract_93 ?_
            obtain ⟨v96, ev96, h⟩ := lti_step h
            refine r_nmI ev96 ?_
            refine lv_iconst (v := 1) hx hb dJ16_subtract_94 (by decide) ?_
            obtain ⟨v97, ev97, h⟩ := lti_step h
            refine r_isub hx hb ev97 dJ16_subtract_95 ?_
            refine lv_dup_x2 hx hb dJ16_subtract_96 rfl rfl rfl ?_
            obtain ⟨i98, xi98, h⟩ := gd_step (nl0 (le_of_gl xn2 (by decide))) h
            obtain ⟨f99, ef99, h⟩ := lt_step h
            refine r_iast hx hb hS had1 hB_had1 i98 xi98 dJ16_subtract_97 (fun H locs hS hO had1 => ?_)
            have had1 : aI D ad1 n2 f99 H := by rw [ef99]; exact had1
            have h_x0 := h_x0.off hO ne_h_x0_had1
            have h_x1 := h_x1.off hO ne_h_x1_had1
            have hF := hF.fresh hO (fun a ha z => absurd (z ▸ ha) (Nat.not_lt.mpr gad1))
            refine lv_iconst (v := (-1)) hx hb dJ16_subtract_98 (by decide) ?_
            obtain ⟨K101, eK101, h⟩ := lt_step h
            have HK101 : ∀ (v100 : Bool) (h : K101 v100 = some z91) (H : Heap) (locs : List Loc) (hS : St D s H locs) (hF : Off (fun _ => False) s.heap H) (h_x0 : aI D x0 x0n x0c H) (h_x1 : aI D x1 x1n x1c H) (had1 : aI D ad1 n2 f99 H) (ls : Array Slot) (hl : lv_has ls 8 [(0, .ref x0), (2, .int v94), (3, .ref ad1)]), W p l e R_J16_subtract s m A below meth c H locs 1 12 Q (F0 m 107 ls [.int (bI v100)]) := by
              intro v100 h H locs hS hF h_x0 h_x1 had1 ls hl
              subst eK101
              refine lv_istore (lv' := [(7, .int (bI v100)), (0, .ref x0), (2, .int v94), (3, .ref ad1)]) hx hb dJ16_subtract_107 hl (by decide) rfl (fun ls hl => ?_)
              refine lv_goto (tgt := 77) hx hb dJ16_subtract_109 (by decide) ?_
              obtain rfl := Option.some.inj h
              exact ih v94 f99 v100 w90 hk  H locs hS hF h_x0 h_x1 had1 ls (lv_sub hl [1, 2, 3, 0] rfl) K112
            clear eK101
            refine lv_icmp_ne (tgt := 106) hx hb dJ16_subtract_99 (by decide) (fun c102 => ?_) (fun c102 => ?_)
            · have h := it_neg h c102
              refine lv_iconst (v := 0) hx hb dJ16_subtract_106 (by decide) ?_
              exact HK101 false h H locs hS hF h_x0 h_x1 had1 ls (lv_sub hl [1, 0, 2] rfl)
            · have h := it_pos h c102
              refine lv_iconst (v := 1) hx hb dJ16_subtract_102 (by decide) ?_
              refine lv_goto (tgt := 107) hx hb dJ16_subtract_103 (by decide) ?_
              exact HK101 true h H locs hS hF h_x0 h_x1 had1 ls (lv_sub hl [1, 0, 2] rfl)
    clear eF89
    refine HL 41 w28.1 w28.2.1 true w90 ew90  H locs hS hF h_x0 h_x1 had1 ls (lv_sub hl [1, 2, 3, 0] rfl) (fun  H locs hS hF h_x0 h_x1 had1 ls hl => ?_)
    obtain ⟨F112, eF112, h⟩ := lt_step h
    obtain ⟨w113, ew113, h⟩ := bind_step h
    have HL : ∀ (n : Nat) (v103 : Int32) (f104 : Nat → Int32) (w113 : (Nat → Int32)) (hk0 : lp n (fun x => F112 x.1 x.2) (v103, f104) = some w113)  (H : Heap) (locs : List Loc) (hS : St D s H locs) (hF : Off (fun _ => False) s.heap H) (h_x0 : aI D x0 x0n x0c H) (h_x1 : aI D x1 x1n x1c H) (had1 : aI D ad1 n2 f104 H) (ls : Array Slot) (hl : lv_has ls 8 [(0, .ref x0), (2, .int v103), (3, .ref ad1)]) (K128 : ∀ (H : Heap) (locs : List Loc) (hS : St D s H locs) (hF : Off (fun _ => False) s.heap H) (h_x0 : aI D x0 x0n x0c H) (h_x1 : aI D x1 x1n x1c H) (had1 : aI D ad1 n2 w113 H) (ls : Array Slot) (hl : lv_has ls 8 [(3, .ref ad1)]), W p l e R_J16_subtract s m A below meth c H locs 1 12 Q (F0 m 128 ls [])), W p l e R_J16_subtract s m A below meth c H locs 1 12 Q (F0 m 112 ls []) := by
      intro n
      induction n with
      | zero => intro v103 f104 w113 hk0  H locs hS hF h_x0 h_x1 had1 ls hl K128; exact lp_zero hk0
      | succ n ih =>
        intro v103 f104 w113 hk0  H locs hS hF h_x0 h_x1 had1 ls hl K128
        obtain ⟨z114, hz, hk⟩ := lp_step hk0
        have h := (congrFun (congrFun (eF112) v103) f104).symm.trans hz
        refine lv_iload_n hx hb dJ16_subtract_112 rfl (lv_at hl 1 rfl) ?_
        refine lv_if_le (tgt := 128) hx hb dJ16_subtract_113 (by decide) (fun c115 => ?_) (fun c115 => ?_)
        · have h := it_pos h c115
          obtain rfl := Option.some.inj h
          obtain rfl := id hk
          exact K128 H locs hS hF h_x0 h_x1 had1 ls (lv_sub hl [2] rfl)
        · have h := it_neg h c115
          refine lv_aload_n hx hb dJ16_subtract_116 rfl (lv_at hl 2 rfl) ?_
          obtain ⟨v116, ev116, h⟩ := lti_step h
          refine lv_iinc (v := v116) (lv' := [(2, .int v116), (0, .ref x0), (3, .ref ad1)]) hx hb dJ16_subtract_117 hl (k := 1) rfl (by rw [ev116]; rfl) (by decide) rfl (fun ls hl => ?_)
          refine lv_iload_n hx hb dJ16_subtract_120 rfl (lv_at hl 0 rfl) ?_
          refine lv_aload_n hx hb dJ16_subtract_121 rfl (lv_at hl 1 rfl) ?_
          refine lv_iload_n hx hb dJ16_subtract_122 rfl (lv_at hl 0 rfl) ?_
          obtain ⟨i117, xi117, h⟩ := gd_step (nl0 l_x0) h
          refine r_iald hx hb hS h_x0 i117 xi117 dJ16_subtract_123 ?_
          obtain ⟨v118, ev118, h⟩ := lti_step h
          refine r_nmI ev118 ?_
          obtain ⟨i119, xi119, h⟩ := gd_step (nl0 (le_of_gl xn2 (by decide))) h
          obtain ⟨f120, ef120, h⟩ := lt_step h
          refine r_iast hx hb hS had1 hB_had1 i119 xi119 dJ16_subtract_124 (fun H locs hS hO had1 => ?_)
          have had1 : aI D ad1 n2 f120 H := by rw [ef120]; exact had1
          have h_x0 := h_x0.off hO ne_h_x0_had1
          have h_x1 := h_x1.off hO ne_h_x1_had1
          have hF := hF.fresh hO (fun a ha z => absurd (z ▸ ha) (Nat.not_lt.mpr gad1))
          refine lv_goto (tgt := 112) hx hb dJ16_subtract_125 (by decide) ?_
          obtain rfl := Option.some.inj h
          exact ih v116 f120 w113 hk  H locs hS hF h_x0 h_x1 had1 ls (lv_sub hl [1, 0, 2] rfl) K128
    clear eF112
    refine HL 41 w90.1 w90.2 w113 ew113  H locs hS hF h_x0 h_x1 had1 ls (lv_sub hl [0, 1, 2] rfl) (fun  H locs hS hF h_x0 h_x1 had1 ls hl => ?_)
    refine lv_aload_n hx hb dJ16_subtract_128 rfl (lv_at hl 0 rfl) ?_
    obtain rfl := Option.some.inj h
    rw [eQ]
    exact r_aret hx hb hr (Or.inr ⟨_, rfl⟩) hlk hS (Nat.le_of_ble_eq_true rfl) (Nat.le_of_ble_eq_true rfl) dJ16_subtract_129 ⟨_, rfl, had1, (le_of_gl xn2 (by decide)), gad1, hF⟩

abbrev R_J16_add : Room := { frames := 4, cells := 3, slots := 30, locals := 106 }
noncomputable def f_J16_add (x0f0 : Int32) (x0r1n : Nat) (x0r1c : Nat → Int32) (x1f0 : Int32) (x1r1n : Nat) (x1r1c : Nat → Int32) : Option (Int32 × Nat × (Nat → Int32)) :=
  (if x1f0 = 0 then
    some (x0f0, x0r1n, x0r1c)
  else
    (if x0f0 = 0 then
      some (x1f0, x1r1n, x1r1c)
    else
      (if x1f0 = x0f0 then
        Option.bind (f_J16_add_2 x0r1n x0r1c x1r1n x1r1c) fun o23 =>
        Option.bind (f_J16_init_2 o23.1 o23.2 x0f0) fun o25 =>
        some (o25, o23.1, o23.2)
      else
        Option.bind (f_J16_compareMagnitude x0f0 x0r1n x0r1c x1f0 x1r1n x1r1c) fun o4 =>
        (if o4 = 0 then
          some (0, 0, (fun _ => 0))
        else
          lt (fun (n7 : Nat) (f8 : Nat → Int32) =>
          Option.bind (f_J16_trustedStripLeadingZeroInts n7 f8) fun o10 =>
          (if o4 = x0f0 then
            Option.bind (f_J16_init_2 o10.1 o10.2 1) fun o15 =>
            some (o15, o10.1, o10.2)
          else
            Option.bind (f_J16_init_2 o10.1 o10.2 (-1)) fun o14 =>
            some (o14, o10.1, o10.2)
          )
          ) fun K9 =>
          (if o4 ≤ 0 then
            Option.bind (f_J16_subtract x1r1n x1r1c x0r1n x0r1c) fun o17 =>
            K9 o17.1 o17.2
          else
            Option.bind (f_J16_subtract x0r1n x0r1c x1r1n x1r1c) fun o19 =>
            K9 o19.1 o19.2
          )
        )
      )
    )
  )
theorem hd_J16_add : Hd yJ16_add 1 := by unfold Hd; decide +kernel
set_option maxHeartbeats 4000000 in
set_option maxRecDepth 100000 in
theorem m_J16_add {l : Launch} {D : DD} (x0 : Nat) (x0r1 : Nat) (x1 : Nat) (x1r1 : Nat) (x0e2 : Int32) (x0e3 : Int32) (x0e4 : Int32) (x0e5 : Int32) (x1e2 : Int32) (x1e3 : Int32) (x1e4 : Int32) (x1e5 : Int32) (x0f0 : Int32) (x0r1n : Nat) (x0r1c : Nat → Int32) (x1f0 : Int32) (x1r1n : Nat) (x1r1c : Nat → Int32) (r : Int32 × Nat × (Nat → Int32)) (h : f_J16_add x0f0 x0r1n x0r1c x1f0 x1r1n x1r1c = some r) : MT l D yJ16_add cJ16_add 4 (some (.object "java/math/BigInteger")) 4 106 3 30 [.ref x0, .ref x1] (fun H => OA D 2 x0 [.int x0f0, .ref x0r1, .int x0e2, .int x0e3, .int x0e4, .int x0e5] H ∧ aI D x0r1 x0r1n x0r1c H ∧ x0r1n ≤ 1000000 ∧ OA D 2 x1 [.int x1f0, .ref x1r1, .int x1e2, .int x1e3, .int x1e4, .int x1e5] H ∧ aI D x1r1 x1r1n x1r1c H ∧ x1r1n ≤ 1000000) (pR (fun H b H' => ∃ b_1 : Nat, ∃ b_2 b_3 b_4 b_5 : Int32, OA D 2 b [.int r.1, .ref b_1, .int b_2, .int b_3, .int b_4, .int b_5] H' ∧ aI D b_1 r.2.1 r.2.2 H' ∧ r.2.1 ≤ 1000000 ∧ Off (fun _ => False) H H')) := by
  refine MT.start (by decide +kernel) (Nat.le_of_ble_eq_true rfl) ?_
  intro p e s m below meth c ls hC hS hp hl
  obtain ⟨h_x0, h_x0r1, l_x0r1, h_x1, h_x1r1, l_x1r1⟩ := hp
  obtain ⟨hx, hb, hr, hlk, hml, hown, hts, hnm⟩ := id hC
  have hl : lv_has ls 4 [(0, .ref x0), (1, .ref x1)] := hl
  unfold f_J16_add at h
  have hS0 := hS
  obtain ⟨A, eA⟩ : ∃ A : Array Value, A = [.ref x0, .ref x1].toArray := ⟨_, rfl⟩
  rw [← eA] at hC hts ⊢
  obtain ⟨Q, eQ⟩ : ∃ Q : State → Prop, Q = MQ below (TQ D (pR (fun H b H' => ∃ b_1 : Nat, ∃ b_2 b_3 b_4 b_5 : Int32, OA D 2 b [.int r.1, .ref b_1, .int b_2, .int b_3, .int b_4, .int b_5] H' ∧ aI D b_1 r.2.1 r.2.2 H' ∧ r.2.1 ≤ 1000000 ∧ Off (fun _ => False) H H'))) A s 3 30 (fun q => dB D ≤ q) := ⟨_, rfl⟩
  have hF : Off (fun _ => False) s.heap s.heap := Off.rf
  show W p l e R_J16_add s m A below meth c s.heap [] 0 0 _ _
  rw [← eQ]
  obtain ⟨H, eH⟩ : ∃ H : Heap, H = s.heap := ⟨_, rfl⟩
  obtain ⟨locs, eLc⟩ : ∃ L : List Loc, L = [] := ⟨_, rfl⟩
  have lt_h_x0 := h_x0.lt
  have lt_h_x0r1 := h_x0r1.lt
  have lt_h_x1 := h_x1.lt
  have lt_h_x1r1 := h_x1r1.lt
  rw [← eH, ← eLc]
  have hF : Off (fun _ => False) s.heap H := by rw [eH]; exact hF
  rw [← eH] at h_x0
  rw [← eH] at h_x0r1
  rw [← eH] at h_x1
  rw [← eH] at h_x1r1
  have hS : St D s H locs := by rw [eH, eLc]; exact hS
  refine lv_aload_n hx hb dJ16_add_0 rfl (lv_at hl 1 rfl) ?_
  refine r_get hx hb hts hown hS h_x1 rfl in_J16 0 (by decide) q435 rfl (v := .int x1f0) rfl dJ16_add_1 ?_
  refine lv_if_ne (tgt := 9) hx hb dJ16_add_4 (by decide) (fun c1 => ?_) (fun c1 => ?_)
  · have h := it_neg h c1
    refine lv_aload_n hx hb dJ16_add_9 rfl (lv_at hl 0 rfl) ?_
    refine r_get hx hb hts hown hS h_x0 rfl in_J16 0 (by decide) q435 rfl (v := .int x0f0) rfl dJ16_add_10 ?_
    refine lv_if_ne (tgt := 18) hx hb dJ16_add_13 (by decide) (fun c2 => ?_) (fun c2 => ?_)
    · have h := it_neg h c2
      refine lv_aload_n hx hb dJ16_add_18 rfl (lv_at hl 1 rfl) ?_
      refine r_get hx hb hts hown hS h_x1 rfl in_J16 0 (by decide) q435 rfl (v := .int x1f0) rfl dJ16_add_19 ?_
      refine lv_aload_n hx hb dJ16_add_22 rfl (lv_at hl 0 rfl) ?_
      refine r_get hx hb hts hown hS h_x0 rfl in_J16 0 (by decide) q435 rfl (v := .int x0f0) rfl dJ16_add_23 ?_
      refine lv_icmp_ne (tgt := 52) hx hb dJ16_add_26 (by decide) (fun c3 => ?_) (fun c3 => ?_)
      · have h := it_neg h c3
        refine lv_aload_n hx hb dJ16_add_52 rfl (lv_at hl 0 rfl) ?_
        refine lv_aload_n hx hb dJ16_add_53 rfl (lv_at hl 1 rfl) ?_
        obtain ⟨o4, eo4, h⟩ := bind_step h
        refine r_cp (r_runV (rest := []) (As := [.ref x1]) hC 1 (m_J16_compareMagnitude x0 x0r1 x1 x1r1 x0e2 x0e3 x0e4 x0e5 x1e2 x1e3 x1e4 x1e5 x0f0 x0r1n x0r1c x1f0 x1r1n x1r1c o4 eo4) q836 q837 q838 q57 q839 (OA.recv hS h_x0 (C := RJ16) rfl) hd_J16_compareMagnitude rfl ⟨Nat.le_of_ble_eq_true rfl, Nat.le_of_ble_eq_true rfl⟩ hS ⟨h_x0, h_x0r1, l_x0r1, h_x1, h_x1r1, l_x1r1⟩ hl.1 rfl (Nat.le_of_ble_eq_true rfl) dJ16_add_54 ⟨Nat.le_of_ble_eq_true rfl, Nat.le_of_ble_eq_true rfl⟩) ?_
        refine lv_istore_n (lv' := [(2, .int o4), (0, .ref x0), (1, .ref x1)]) hx hb dJ16_add_57 rfl hl (by decide) rfl (fun ls hl => ?_)
        refine lv_iload_n hx hb dJ16_add_58 rfl (lv_at hl 0 rfl) ?_
        refine lv_if_ne (tgt := 66) hx hb dJ16_add_59 (by decide) (fun c5 => ?_) (fun c5 => ?_)
        · have h := it_neg h c5
          refine lv_iload_n hx hb dJ16_add_66 rfl (lv_at hl 0 rfl) ?_
          obtain ⟨K9, eK9, h⟩ := lt_step h
          have HK9 : ∀ (n7 : Nat) (f8 : Nat → Int32) (h : K9 n7 f8 = some r) (ad6 : Nat) (ln7 : n7 ≤ 1000000) (hB_had6 : dB D ≤ ad6) (gad6 : s.heap.size ≤ ad6) (ne_h_x0_had6 : x0 ≠ ad6) (ne_h_x0r1_had6 : x0r1 ≠ ad6) (ne_h_x1_had6 : x1 ≠ ad6) (ne_h_x1r1_had6 : x1r1 ≠ ad6) (H : Heap) (locs : List Loc) (hS : St D s H locs) (hF : Off (fun _ => False) s.heap H) (h_x0 : OA D 2 x0 [.int x0f0, .ref x0r1, .int x0e2, .int x0e3, .int x0e4, .int x0e5] H) (h_x0r1 : aI D x0r1 x0r1n x0r1c H) (h_x1 : OA D 2 x1 [.int x1f0, .ref x1r1, .int x1e2, .int x1e3, .int x1e4, .int x1e5] H) (h_x1r1 : aI D x1r1 x1r1n x1r1c H) (had6 : aI D ad6 n7 f8 H) (ls : Array Slot) (hl : lv_has ls 4 [(0, .ref x0), (2, .int o4)]), W p l e R_J16_add s m A below meth c H locs 1 12 Q (F0 m 95 ls [.ref ad6]) := by
            intro n7 f8 h ad6 ln7 hB_had6 gad6 ne_h_x0_had6 ne_h_x0r1_had6 ne_h_x1_had6 ne_h_x1r1_had6 H locs hS hF h_x0 h_x0r1 h_x1 h_x1r1 had6 ls hl
            subst eK9
            refine lv_astore_n (lv' := [(3, .ref ad6), (0, .ref x0), (2, .int o4)]) hx hb dJ16_add_95 rfl hl (by decide) rfl (fun ls hl => ?_)
            refine lv_aload_n hx hb dJ16_add_96 rfl (lv_at hl 0 rfl) ?_
            obtain ⟨o10, eo10, h⟩ := bind_step h
            refine r_cr (r_runS (rest := []) (As := [.ref ad6]) hC 1 (m_J16_trustedStripLeadingZeroInts ad6  n7 f8 o10 eo10) q795 q796 q57 q797 hd_J16_trustedStripLeadingZeroInts rfl ⟨Nat.le_of_ble_eq_true rfl, Nat.le_of_ble_eq_true rfl⟩ hS ⟨had6, ln7⟩ hl.1 rfl (Nat.le_of_ble_eq_true rfl) dJ16_add_97 ⟨Nat.le_of_ble_eq_true rfl, Nat.le_of_ble_eq_true rfl⟩) hS (fun ad11 H locs hp hS hz => ?_)
            obtain ⟨had11, lo10_1, hO⟩ := hp
            have h_x0 := h_x0.ext hO
            have h_x0r1 := h_x0r1.ext hO
            have h_x1 := h_x1.ext hO
            have h_x1r1 := h_x1r1.ext hO
            have had6 := had6.ext hO
            have hF := hF.trans (hO.mono (fun _ _ z => z.elim))
            refine lv_astore_n (lv' := [(3, .ref ad11), (0, .ref x0), (2, .int o4)]) hx hb dJ16_add_100 rfl hl (by decide) rfl (fun ls hl => ?_)
            refine r_new (k := 2) hx hb hts hown hS rfl in_J16 tyJ16 tyJ16_ok q426 q427 q57 (fs := [.int 0, .null, .int 0, .int 0, .int 0, .int 0]) rfl (by decide) (Nat.le_of_ble_eq_true rfl) (Nat.le_of_ble_eq_true rfl) dJ16_add_101 (fun ad12 H eq_ad12 hS hE had12 z_ad12 hB_had12 => ?_)
            have gad12 : s.heap.size ≤ ad12 := by have := hF.1; omega
            have ne_h_x0_had12 : x0 ≠ ad12 := by have := h_x0.lt; omega
            have h_x0 := h_x0.ext hE
            have ne_h_x0r1_had12 : x0r1 ≠ ad12 := by have := h_x0r1.lt; omega
            have h_x0r1 := h_x0r1.ext hE
            have ne_h_x1_had12 : x1 ≠ ad12 := by have := h_x1.lt; omega
            have h_x1 := h_x1.ext hE
            have ne_h_x1r1_had12 : x1r1 ≠ ad12 := by have := h_x1r1.lt; omega
            have h_x1r1 := h_x1r1.ext hE
            have ne_had6_had12 : ad6 ≠ ad12 := by have := had6.lt; omega
            have had6 := had6.ext hE
            have ne_had11_had12 : ad11 ≠ ad12 := by have := had11.lt; omega
            have had11 := had11.ext hE
            have hF := hF.trans (hE.mono (fun _ _ z => z.elim))
            refine lv_dup hx hb dJ16_add_104 rfl ?_
            refine lv_aload_n hx hb dJ16_add_105 rfl (lv_at hl 0 rfl) ?_
            refine lv_iload_n hx hb dJ16_add_106 rfl (lv_at hl 2 rfl) ?_
            refine lv_aload_n hx hb dJ16_add_107 rfl (lv_at hl 1 rfl) ?_
            refine r_get hx hb hts hown hS h_x0 rfl in_J16 0 (by decide) q435 rfl (v := .int x0f0) rfl dJ16_add_108 ?_
            refine lv_icmp_ne (tgt := 118) hx hb dJ16_add_111 (by decide) (fun c13 => ?_) (fun c13 => ?_)
            · have h := it_neg h c13
              refine lv_iconst (v := (-1)) hx hb dJ16_add_118 (by decide) ?_
              obtain ⟨o14, eo14, h⟩ := bind_step h
              refine r_cv (r_runI (rest := [.ref ad12]) (As := [.ref ad11, .int (-1)]) hC 2 (m_J16_init_2 ad12 ad11  o10.1 o10.2 (-1) o14 eo14) q473 q474 q57 q475 rfl hd_J16_init_2 rfl ⟨Nat.le_of_ble_eq_true rfl, Nat.le_of_ble_eq_true rfl⟩ hS ⟨had12, hB_had12, had11, lo10_1, (Ne.symm ne_had11_had12)⟩ hl.1 rfl (Nat.le_of_ble_eq_true rfl) dJ16_add_119 ⟨Nat.le_of_ble_eq_true rfl, Nat.le_of_ble_eq_true rfl⟩) hS (fun H locs hp hS hz => ?_)
              obtain ⟨had12, hO⟩ := hp
              have h_x0 := h_x0.off hO ne_h_x0_had12
              have h_x0r1 := h_x0r1.off hO ne_h_x0r1_had12
              have h_x1 := h_x1.off hO ne_h_x1_had12
              have h_x1r1 := h_x1r1.off hO ne_h_x1r1_had12
              have had6 := had6.off hO ne_had6_had12
              have had11 := had11.off hO ne_had11_had12
              have hF := hF.fresh hO (fun a ha z => absurd (z ▸ ha) (Nat.not_lt.mpr gad12))
              obtain rfl := Option.some.inj h
              rw [eQ]
              exact r_aret hx hb hr (Or.inl ⟨_, rfl⟩) hlk hS (Nat.le_of_ble_eq_true rfl) (Nat.le_of_ble_eq_true rfl) dJ16_add_122 ⟨_, rfl, ad11, 0, 0, 0, 0, had12.OA, had11, lo10_1, hF⟩
            · have h := it_pos h c13
              refine lv_iconst (v := 1) hx hb dJ16_add_114 (by decide) ?_
              refine lv_goto (tgt := 119) hx hb dJ16_add_115 (by decide) ?_
              obtain ⟨o15, eo15, h⟩ := bind_step h
              refine r_cv (r_runI (rest := [.ref ad12]) (As := [.ref ad11, .int 1]) hC 2 (m_J16_init_2 ad12 ad11  o10.1 o10.2 1 o15 eo15) q473 q474 q57 q475 rfl hd_J16_init_2 rfl ⟨Nat.le_of_ble_eq_true rfl, Nat.le_of_ble_eq_true rfl⟩ hS ⟨had12, hB_had12, had11, lo10_1, (Ne.symm ne_had11_had12)⟩ hl.1 rfl (Nat.le_of_ble_eq_true rfl) dJ16_add_119 ⟨Nat.le_of_ble_eq_true rfl, Nat.le_of_ble_eq_true rfl⟩) hS (fun H locs hp hS hz => ?_)
              obtain ⟨had12, hO⟩ := hp
              have h_x0 := h_x0.off hO ne_h_x0_had12
              have h_x0r1 := h_x0r1.off hO ne_h_x0r1_had12
              have h_x1 := h_x1.off hO ne_h_x1_had12
              have h_x1r1 := h_x1r1.off hO ne_h_x1r1_had12
              have had6 := had6.off hO ne_had6_had12
              have had11 := had11.off hO ne_had11_had12
              have hF := hF.fresh hO (fun a ha z => absurd (z ▸ ha) (Nat.not_lt.mpr gad12))
              obtain rfl := Option.some.inj h
              rw [eQ]
              exact r_aret hx hb hr (Or.inl ⟨_, rfl⟩) hlk hS (Nat.le_of_ble_eq_true rfl) (Nat.le_of_ble_eq_true rfl) dJ16_add_122 ⟨_, rfl, ad11, 0, 0, 0, 0, had12.OA, had11, lo10_1, hF⟩
          clear eK9
          refine lv_if_le (tgt := 84) hx hb dJ16_add_67 (by decide) (fun c16 => ?_) (fun c16 => ?_)
          · have h := it_pos h c16
            refine lv_aload_n hx hb dJ16_add_84 rfl (lv_at hl 2 rfl) ?_
            refine r_get hx hb hts hown hS h_x1 rfl in_J16 1 (by decide) q436 rfl (v := .ref x1r1) rfl dJ16_add_85 ?_
            refine lv_aload_n hx hb dJ16_add_88 rfl (lv_at hl 1 rfl) ?_
            refine r_get hx hb hts hown hS h_x0 rfl in_J16 1 (by decide) q436 rfl (v := .ref x0r1) rfl dJ16_add_89 ?_
            obtain ⟨o17, eo17, h⟩ := bind_step h
            refine r_cr (r_runS (rest := []) (As := [.ref x1r1, .ref x0r1]) hC 2 (m_J16_subtract x1r1 x0r1  x1r1n x1r1c x0r1n x0r1c o17 eo17) q840 q841 q57 q842 hd_J16_subtract rfl ⟨Nat.le_of_ble_eq_true rfl, Nat.le_of_ble_eq_true rfl⟩ hS ⟨h_x1r1, l_x1r1, h_x0r1, l_x0r1⟩ hl.1 rfl (Nat.le_of_ble_eq_true rfl) dJ16_add_92 ⟨Nat.le_of_ble_eq_true rfl, Nat.le_of_ble_eq_true rfl⟩) hS (fun ad18 H locs hp hS hz => ?_)
            obtain ⟨had18, lo17_1, frad18, hO⟩ := hp
            have ne_h_x0_had18 : x0 ≠ ad18 := Nat.ne_of_lt (Nat.lt_of_lt_of_le h_x0.lt frad18)
            have ne_h_x0r1_had18 : x0r1 ≠ ad18 := Nat.ne_of_lt (Nat.lt_of_lt_of_le h_x0r1.lt frad18)
            have ne_h_x1_had18 : x1 ≠ ad18 := Nat.ne_of_lt (Nat.lt_of_lt_of_le h_x1.lt frad18)
            have ne_h_x1r1_had18 : x1r1 ≠ ad18 := Nat.ne_of_lt (Nat.lt_of_lt_of_le h_x1r1.lt frad18)
            have gad18 : s.heap.size ≤ ad18 := Nat.le_trans hF.1 frad18
            have hB_had18 : dB D ≤ ad18 := by have := hS0.1.2.2.1; omega
            have h_x0 := h_x0.ext hO
            have h_x0r1 := h_x0r1.ext hO
            have h_x1 := h_x1.ext hO
            have h_x1r1 := h_x1r1.ext hO
            have hF := hF.trans (hO.mono (fun _ _ z => z.elim))
            exact HK9 o17.1 o17.2 h ad18 lo17_1 hB_had18 gad18 ne_h_x0_had18 ne_h_x0r1_had18 ne_h_x1_had18 ne_h_x1r1_had18 H locs hS hF h_x0 h_x0r1 h_x1 h_x1r1 had18 ls (lv_sub hl [1, 0] rfl)
          · have h := it_neg h c16
            refine lv_aload_n hx hb dJ16_add_70 rfl (lv_at hl 1 rfl) ?_
            refine r_get hx hb hts hown hS h_x0 rfl in_J16 1 (by decide) q436 rfl (v := .ref x0r1) rfl dJ16_add_71 ?_
            refine lv_aload_n hx hb dJ16_add_74 rfl (lv_at hl 2 rfl) ?_
            refine r_get hx hb hts hown hS h_x1 rfl in_J16 1 (by decide) q436 rfl (v := .ref x1r1) rfl dJ16_add_75 ?_
            obtain ⟨o19, eo19, h⟩ := bind_step h
            refine r_cr (r_runS (rest := []) (As := [.ref x0r1, .ref x1r1]) hC 2 (m_J16_subtract x0r1 x1r1  x0r1n x0r1c x1r1n x1r1c o19 eo19) q840 q841 q57 q842 hd_J16_subtract rfl ⟨Nat.le_of_ble_eq_true rfl, Nat.le_of_ble_eq_true rfl⟩ hS ⟨h_x0r1, l_x0r1, h_x1r1, l_x1r1⟩ hl.1 rfl (Nat.le_of_ble_eq_true rfl) dJ16_add_78 ⟨Nat.le_of_ble_eq_true rfl, Nat.le_of_ble_eq_true rfl⟩) hS (fun ad20 H locs hp hS hz => ?_)
            obtain ⟨had20, lo19_1, frad20, hO⟩ := hp
            have ne_h_x0_had20 : x0 ≠ ad20 := Nat.ne_of_lt (Nat.lt_of_lt_of_le h_x0.lt frad20)
            have ne_h_x0r1_had20 : x0r1 ≠ ad20 := Nat.ne_of_lt (Nat.lt_of_lt_of_le h_x0r1.lt frad20)
            have ne_h_x1_had20 : x1 ≠ ad20 := Nat.ne_of_lt (Nat.lt_of_lt_of_le h_x1.lt frad20)
            have ne_h_x1r1_had20 : x1r1 ≠ ad20 := Nat.ne_of_lt (Nat.lt_of_lt_of_le h_x1r1.lt frad20)
            have gad20 : s.heap.size ≤ ad20 := Nat.le_trans hF.1 frad20
            have hB_had20 : dB D ≤ ad20 := by have := hS0.1.2.2.1; omega
            have h_x0 := h_x0.ext hO
            have h_x0r1 := h_x0r1.ext hO
            have h_x1 := h_x1.ext hO
            have h_x1r1 := h_x1r1.ext hO
            have hF := hF.trans (hO.mono (fun _ _ z => z.elim))
            refine lv_goto (tgt := 95) hx hb dJ16_add_81 (by decide) ?_
            exact HK9 o19.1 o19.2 h ad20 lo19_1 hB_had20 gad20 ne_h_x0_had20 ne_h_x0r1_had20 ne_h_x1_had20 ne_h_x1r1_had20 H locs hS hF h_x0 h_x0r1 h_x1 h_x1r1 had20 ls (lv_sub hl [1, 0] rfl)
        · have h := it_pos h c5
          refine r_gets hx hb hts hown hS 14 rfl q418 dJ16_add_62 ?_
          obtain ⟨ay21, by21, cy21, dy21, zy21⟩ := hS0.1.1.2.2.2.2.1.2.1
          obtain ⟨fy21, wy21⟩ := hS0.1.1.2.2.2.2.1.2.2.1
          have wy21 : aI D (dN D 15) 0 (fun _ => 0) D.1.heap := RA.congr wy21 (fun j hj => absurd hj (Nat.not_lt_zero j))
          obtain rfl := Option.some.inj h
          rw [eQ]
          exact r_aret hx hb hr (Or.inl ⟨_, rfl⟩) hlk hS (Nat.le_of_ble_eq_true rfl) (Nat.le_of_ble_eq_true rfl) dJ16_add_65 ⟨_, rfl, (dN D 15), ay21, by21, cy21, dy21, (hS.1.OA zy21), (hS.1.RA wy21), (Nat.le_of_ble_eq_true rfl), hF⟩
      · have h := it_pos h c3
        refine r_new (k := 2) hx hb hts hown hS rfl in_J16 tyJ16 tyJ16_ok q426 q427 q57 (fs := [.int 0, .null, .int 0, .int 0, .int 0, .int 0]) rfl (by decide) (Nat.le_of_ble_eq_true rfl) (Nat.le_of_ble_eq_true rfl) dJ16_add_29 (fun ad22 H eq_ad22 hS hE had22 z_ad22 hB_had22 => ?_)
        have gad22 : s.heap.size ≤ ad22 := by have := hF.1; omega
        have ne_h_x0_had22 : x0 ≠ ad22 := by have := h_x0.lt; omega
        have h_x0 := h_x0.ext hE
        have ne_h_x0r1_had22 : x0r1 ≠ ad22 := by have := h_x0r1.lt; omega
        have h_x0r1 := h_x0r1.ext hE
        have ne_h_x1_had22 : x1 ≠ ad22 := by have := h_x1.lt; omega
        have h_x1 := h_x1.ext hE
        have ne_h_x1r1_had22 : x1r1 ≠ ad22 := by have := h_x1r1.lt; omega
        have h_x1r1 := h_x1r1.ext hE
        have hF := hF.trans (hE.mono (fun _ _ z => z.elim))
        refine lv_dup hx hb dJ16_add_32 rfl ?_
        refine lv_aload_n hx hb dJ16_add_33 rfl (lv_at hl 0 rfl) ?_
        refine r_get hx hb hts hown hS h_x0 rfl in_J16 1 (by decide) q436 rfl (v := .ref x0r1) rfl dJ16_add_34 ?_
        refine lv_aload_n hx hb dJ16_add_37 rfl (lv_at hl 1 rfl) ?_
        refine r_get hx hb hts hown hS h_x1 rfl in_J16 1 (by decide) q436 rfl (v := .ref x1r1) rfl dJ16_add_38 ?_
        obtain ⟨o23, eo23, h⟩ := bind_step h
        refine r_cr (r_runS (rest := [.ref ad22, .ref ad22]) (As := [.ref x0r1, .ref x1r1]) hC 2 (m_J16_add_2 x0r1 x1r1  x0r1n x0r1c x1r1n x1r1c o23 eo23) q833 q834 q57 q835 hd_J16_add_2 rfl ⟨Nat.le_of_ble_eq_true rfl, Nat.le_of_ble_eq_true rfl⟩ hS ⟨h_x0r1, l_x0r1, h_x1r1, l_x1r1⟩ hl.1 rfl (Nat.le_of_ble_eq_true rfl) dJ16_add_41 ⟨Nat.le_of_ble_eq_true rfl, Nat.le_of_ble_eq_true rfl⟩) hS (fun ad24 H locs hp hS hz => ?_)
        obtain ⟨had24, lo23_1, frad24, hO⟩ := hp
        have ne_h_x0_had24 : x0 ≠ ad24 := Nat.ne_of_lt (Nat.lt_of_lt_of_le h_x0.lt frad24)
        have ne_h_x0r1_had24 : x0r1 ≠ ad24 := Nat.ne_of_lt (Nat.lt_of_lt_of_le h_x0r1.lt frad24)
        have ne_h_x1_had24 : x1 ≠ ad24 := Nat.ne_of_lt (Nat.lt_of_lt_of_le h_x1.lt frad24)
        have ne_h_x1r1_had24 : x1r1 ≠ ad24 := Nat.ne_of_lt (Nat.lt_of_lt_of_le h_x1r1.lt frad24)
        have ne_had22_had24 : ad22 ≠ ad24 := Nat.ne_of_lt (Nat.lt_of_lt_of_le had22.lt frad24)
        have gad24 : s.heap.size ≤ ad24 := Nat.le_trans hF.1 frad24
        have hB_had24 : dB D ≤ ad24 := by have := hS0.1.2.2.1; omega
        have h_x0 := h_x0.ext hO
        have h_x0r1 := h_x0r1.ext hO
        have h_x1 := h_x1.ext hO
        have h_x1r1 := h_x1r1.ext hO
        have had22 := had22.ext hO
        have hF := hF.trans (hO.mono (fun _ _ z => z.elim))
        refine lv_aload_n hx hb dJ16_add_44 rfl (lv_at hl 0 rfl) ?_
        refine r_get hx hb hts hown hS h_x0 rfl in_J16 0 (by decide) q435 rfl (v := .int x0f0) rfl dJ16_add_45 ?_
        obtain ⟨o25, eo25, h⟩ := bind_step h
        refine r_cv (r_runI (rest := [.ref ad22]) (As := [.ref ad24, .int x0f0]) hC 2 (m_J16_init_2 ad22 ad24  o23.1 o23.2 x0f0 o25 eo25) q473 q474 q57 q475 rfl hd_J16_init_2 rfl ⟨Nat.le_of_ble_eq_true rfl, Nat.le_of_ble_eq_true rfl⟩ hS ⟨had22, hB_had22, had24, lo23_1, ne_had22_had24⟩ hl.1 rfl (Nat.le_of_ble_eq_true rfl) dJ16_add_48 ⟨Nat.le_of_ble_eq_true rfl, Nat.le_of_ble_eq_true rfl⟩) hS (fun H locs hp hS hz => ?_)
        obtain ⟨had22, hO⟩ := hp
        have h_x0 := h_x0.off hO ne_h_x0_had22
        have h_x0r1 := h_x0r1.off hO ne_h_x0r1_had22
        have h_x1 := h_x1.off hO ne_h_x1_had22
        have h_x1r1 := h_x1r1.off hO ne_h_x1r1_had22
        have had24 := had24.off hO (Ne.symm ne_had22_had24)
        have hF := hF.fresh hO (fun a ha z => absurd (z ▸ ha) (Nat.not_lt.mpr gad22))
        obtain rfl := Option.some.inj h
        rw [eQ]
        exact r_aret hx hb hr (Or.inl ⟨_, rfl⟩) hlk hS (Nat.le_of_ble_eq_true rfl) (Nat.le_of_ble_eq_true rfl) dJ16_add_51 ⟨_, rfl, ad24, 0, 0, 0, 0, had22.OA, had24, lo23_1, hF⟩
    · have h := it_pos h c2
      refine lv_aload_n hx hb dJ16_add_16 rfl (lv_at hl 1 rfl) ?_
      obtain rfl := Option.some.inj h
      rw [eQ]
      exact r_aret hx hb hr (Or.inl ⟨_, rfl⟩) hlk hS (Nat.le_of_ble_eq_true rfl) (Nat.le_of_ble_eq_true rfl) dJ16_add_17 ⟨_, rfl, x1r1, x1e2, x1e3, x1e4, x1e5, h_x1, h_x1r1, l_x1r1, hF⟩
  · have h := it_pos h c1
    refine lv_aload_n hx hb dJ16_add_7 rfl (lv_at hl 0 rfl) ?_
    obtain rfl := Option.some.inj h
    rw [eQ]
    exact r_aret hx hb hr (Or.inl ⟨_, rfl⟩) hlk hS (Nat.le_of_ble_eq_true rfl) (Nat.le_of_ble_eq_true rfl) dJ16_add_8 ⟨_, rfl, x0r1, x0e2, x0e3, x0e4, x0e5, h_x0, h_x0r1, l_x0r1, hF⟩

abbrev R_J16_subtract_2 : Room := { frames := 4, cells := 3, slots := 30, locals := 106 }
noncomputable def f_J16_subtract_2 (x0f0 : Int32) (x0r1n : Nat) (x0r1c : Nat → Int32) (x1f0 : Int32) (x1r1n : Nat) (x1r1c : Nat → Int32) : Option (Int32 × Nat × (Nat → Int32)) :=
  (if x1f0 = 0 then
    some (x0f0, x0r1n, x0r1c)
  else
    (if x0f0 = 0 then
      Option.bind (f_J16_negate x1f0 x1r1n x1r1c) fun o26 =>
      some (o26.1, o26.2.1, o26.2.2)
    else
      (if x1f0 = x0f0 then
        Option.bind (f_J16_compareMagnitude x0f0 x0r1n x0r1c x1f0 x1r1n x1r1c) fun o4 =>
        (if o4 = 0 then
          some (0, 0, (fun _ => 0))
        else
          lt (fun (n7 : Nat) (f8 : Nat → Int32) =>
          Option.bind (f_J16_trustedStripLeadingZeroInts n7 f8) fun o10 =>
          (if o4 = x0f0 then
            Option.bind (f_J16_init_2 o10.1 o10.2 1) fun o15 =>
            some (o15, o10.1, o10.2)
          else
            Option.bind (f_J16_init_2 o10.1 o10.2 (-1)) fun o14 =>
            some (o14, o10.1, o10.2)
          )
          ) fun K9 =>
          (if o4 ≤ 0 then
            Option.bind (f_J16_subtract x1r1n x1r1c x0r1n x0r1c) fun o17 =>
            K9 o17.1 o17.2
          else
            Option.bind (f_J16_subtract x0r1n x0r1c x1r1n x1r1c) fun o19 =>
            K9 o19.1 o19.2
          )
        )
      else
        Option.bind (f_J16_add_2 x0r1n x0r1c x1r1n x1r1c) fun o23 =>
        Option.bind (f_J16_init_2 o23.1 o23.2 x0f0) fun o25 =>
        some (o25, o23.1, o23.2)
      )
    )
  )
theorem hd_J16_subtract_2 : Hd yJ16_subtract_2 1 := by unfold Hd; decide +kernel
set_option maxHeartbeats 4000000 in
set_option maxRecDepth 100000 in
theorem m_J16_subtract_2 {l : Launch} {D : DD} (x0 : Nat) (x0r1 : Nat) (x1 : Nat) (x1r1 : Nat) (x0e2 : Int32) (x0e3 : Int32) (x0e4 : Int32) (x0e5 : Int32) (x1e2 : Int32) (x1e3 : Int32) (x1e4 : Int32) (x1e5 : Int32) (x0f0 : Int32) (x0r1n : Nat) (x0r1c : Nat → Int32) (x1f0 : Int32) (x1r1n : Nat) (x1r1c : Nat → Int32) (r : Int32 × Nat × (Nat → Int32)) (h : f_J16_subtract_2 x0f0 x0r1n x0r1c x1f0 x1r1n x1r1c = some r) : MT l D yJ16_subtract_2 cJ16_subtract_2 4 (some (.object "java/math/BigInteger")) 4 106 3 30 [.ref x0, .ref x1] (fun H => OA D 2 x0 [.int x0f0, .ref x0r1, .int x0e2, .int x0e3, .int x0e4, .int x0e5] H ∧ aI D x0r1 x0r1n x0r1c H ∧ x0r1n ≤ 1000000 ∧ OA D 2 x1 [.int x1f0, .ref x1r1, .int x1e2, .int x1e3, .int x1e4, .int x1e5] H ∧ aI D x1r1 x1r1n x1r1c H ∧ x1r1n ≤ 1000000) (pR (fun H b H' => ∃ b_1 : Nat, ∃ b_2 b_3 b_4 b_5 : Int32, OA D 2 b [.int r.1, .ref b_1, .int b_2, .int b_3, .int b_4, .int b_5] H' ∧ aI D b_1 r.2.1 r.2.2 H' ∧ r.2.1 ≤ 1000000 ∧ Off (fun _ => False) H H')) := by
  refine MT.start (by decide +kernel) (Nat.le_of_ble_eq_true rfl) ?_
  intro p e s m below meth c ls hC hS hp hl
  obtain ⟨h_x0, h_x0r1, l_x0r1, h_x1, h_x1r1, l_x1r1⟩ := hp
  obtain ⟨hx, hb, hr, hlk, hml, hown, hts, hnm⟩ := id hC
  have hl : lv_has ls 4 [(0, .ref x0), (1, .ref x1)] := hl
  unfold f_J16_subtract_2 at h
  have hS0 := hS
  obtain ⟨A, eA⟩ : ∃ A : Array Value, A = [.ref x0, .ref x1].toArray := ⟨_, rfl⟩
  rw [← eA] at hC hts ⊢
  obtain ⟨Q, eQ⟩ : ∃ Q : State → Prop, Q = MQ below (TQ D (pR (fun H b H' => ∃ b_1 : Nat, ∃ b_2 b_3 b_4 b_5 : Int32, OA D 2 b [.int r.1, .ref b_1, .int b_2, .int b_3, .int b_4, .int b_5] H' ∧ aI D b_1 r.2.1 r.2.2 H' ∧ r.2.1 ≤ 1000000 ∧ Off (fun _ => False) H H'))) A s 3 30 (fun q => dB D ≤ q) := ⟨_, rfl⟩
  have hF : Off (fun _ => False) s.heap s.heap := Off.rf
  show W p l e R_J16_subtract_2 s m A below meth c s.heap [] 0 0 _ _
  rw [← eQ]
  obtain ⟨H, eH⟩ : ∃ H : Heap, H = s.heap := ⟨_, rfl⟩
  obtain ⟨locs, eLc⟩ : ∃ L : List Loc, L = [] := ⟨_, rfl⟩
  have lt_h_x0 := h_x0.lt
  have lt_h_x0r1 := h_x0r1.lt
  have lt_h_x1 := h_x1.lt
  have lt_h_x1r1 := h_x1r1.lt
  rw [← eH, ← eLc]
  have hF : Off (fun _ => False) s.heap H := by rw [eH]; exact hF
  rw [← eH] at h_x0
  rw [← eH] at h_x0r1
  rw [← eH] at h_x1
  rw [← eH] at h_x1r1
  have hS : St D s H locs := by rw [eH, eLc]; exact hS
  refine lv_aload_n hx hb dJ16_subtract_2_0 rfl (lv_at hl 1 rfl) ?_
  refine r_get hx hb hts hown hS h_x1 rfl in_J16 0 (by decide) q435 rfl (v := .int x1f0) rfl dJ16_subtract_2_1 ?_
  refine lv_if_ne (tgt := 9) hx hb dJ16_subtract_2_4 (by decide) (fun c1 => ?_) (fun c1 => ?_)
  · have h := it_neg h c1
    refine lv_aload_n hx hb dJ16_subtract_2_9 rfl (lv_at hl 0 rfl) ?_
    refine r_get hx hb hts hown hS h_x0 rfl in_J16 0 (by decide) q435 rfl (v := .int x0f0) rfl dJ16_subtract_2_10 ?_
    refine lv_if_ne (tgt := 21) hx hb dJ16_subtract_2_13 (by decide) (fun c2 => ?_) (fun c2 => ?_)
    · have h := it_neg h c2
      refine lv_aload_n hx hb dJ16_subtract_2_21 rfl (lv_at hl 1 rfl) ?_
      refine r_get hx hb hts hown hS h_x1 rfl in_J16 0 (by decide) q435 rfl (v := .int x1f0) rfl dJ16_subtract_2_22 ?_
      refine lv_aload_n hx hb dJ16_subtract_2_25 rfl (lv_at hl 0 rfl) ?_
      refine r_get hx hb hts hown hS h_x0 rfl in_J16 0 (by decide) q435 rfl (v := .int x0f0) rfl dJ16_subtract_2_26 ?_
      refine lv_icmp_eq (tgt := 55) hx hb dJ16_subtract_2_29 (by decide) (fun c3 => ?_) (fun c3 => ?_)
      · have h := it_pos h c3
        refine lv_aload_n hx hb dJ16_subtract_2_55 rfl (lv_at hl 0 rfl) ?_
        refine lv_aload_n hx hb dJ16_subtract_2_56 rfl (lv_at hl 1 rfl) ?_
        obtain ⟨o4, eo4, h⟩ := bind_step h
        refine r_cp (r_runV (rest := []) (As := [.ref x1]) hC 1 (m_J16_compareMagnitude x0 x0r1 x1 x1r1 x0e2 x0e3 x0e4 x0e5 x1e2 x1e3 x1e4 x1e5 x0f0 x0r1n x0r1c x1f0 x1r1n x1r1c o4 eo4) q836 q837 q838 q57 q839 (OA.recv hS h_x0 (C := RJ16) rfl) hd_J16_compareMagnitude rfl ⟨Nat.le_of_ble_eq_true rfl, Nat.le_of_ble_eq_true rfl⟩ hS ⟨h_x0, h_x0r1, l_x0r1, h_x1, h_x1r1, l_x1r1⟩ hl.1 rfl (Nat.le_of_ble_eq_true rfl) dJ16_subtract_2_57 ⟨Nat.le_of_ble_eq_true rfl, Nat.le_of_ble_eq_true rfl⟩) ?_
        refine lv_istore_n (lv' := [(2, .int o4), (0, .ref x0), (1, .ref x1)]) hx hb dJ16_subtract_2_60 rfl hl (by decide) rfl (fun ls hl => ?_)
        refine lv_iload_n hx hb dJ16_subtract_2_61 rfl (lv_at hl 0 rfl) ?_
        refine lv_if_ne (tgt := 69) hx hb dJ16_subtract_2_62 (by decide) (fun c5 => ?_) (fun c5 => ?_)
        · have h := it_neg h c5
          refine lv_iload_n hx hb dJ16_subtract_2_69 rfl (lv_at hl 0 rfl) ?_
          obtain ⟨K9, eK9, h⟩ := lt_step h
          have HK9 : ∀ (n7 : Nat) (f8 : Nat → Int32) (h : K9 n7 f8 = some r) (ad6 : Nat) (ln7 : n7 ≤ 1000000) (hB_had6 : dB D ≤ ad6) (gad6 : s.heap.size ≤ ad6) (ne_h_x0_had6 : x0 ≠ ad6) (ne_h_x0r1_had6 : x0r1 ≠ ad6) (ne_h_x1_had6 : x1 ≠ ad6) (ne_h_x1r1_had6 : x1r1 ≠ ad6) (H : Heap) (locs : List Loc) (hS : St D s H locs) (hF : Off (fun _ => False) s.heap H) (h_x0 : OA D 2 x0 [.int x0f0, .ref x0r1, .int x0e2, .int x0e3, .int x0e4, .int x0e5] H) (h_x0r1 : aI D x0r1 x0r1n x0r1c H) (h_x1 : OA D 2 x1 [.int x1f0, .ref x1r1, .int x1e2, .int x1e3, .int x1e4, .int x1e5] H) (h_x1r1 : aI D x1r1 x1r1n x1r1c H) (had6 : aI D ad6 n7 f8 H) (ls : Array Slot) (hl : lv_has ls 4 [(0, .ref x0), (2, .int o4)]), W p l e R_J16_subtract_2 s m A below meth c H locs 1 12 Q (F0 m 98 ls [.ref ad6]) := by
            intro n7 f8 h ad6 ln7 hB_had6 gad6 ne_h_x0_had6 ne_h_x0r1_had6 ne_h_x1_had6 ne_h_x1r1_had6 H locs hS hF h_x0 h_x0r1 h_x1 h_x1r1 had6 ls hl
            subst eK9
            refine lv_astore_n (lv' := [(3, .ref ad6), (0, .ref x0), (2, .int o4)]) hx hb dJ16_subtract_2_98 rfl hl (by decide) rfl (fun ls hl => ?_)
            refine lv_aload_n hx hb dJ16_subtract_2_99 rfl (lv_at hl 0 rfl) ?_
            obtain ⟨o10, eo10, h⟩ := bind_step h
            refine r_cr (r_runS (rest := []) (As := [.ref ad6]) hC 1 (m_J16_trustedStripLeadingZeroInts ad6  n7 f8 o10 eo10) q795 q796 q57 q797 hd_J16_trustedStripLeadingZeroInts rfl ⟨Nat.le_of_ble_eq_true rfl, Nat.le_of_ble_eq_true rfl⟩ hS ⟨had6, ln7⟩ hl.1 rfl (Nat.le_of_ble_eq_true rfl) dJ16_subtract_2_100 ⟨Nat.le_of_ble_eq_true rfl, Nat.le_of_ble_eq_true rfl⟩) hS (fun ad11 H locs hp hS hz => ?_)
            obtain ⟨had11, lo10_1, hO⟩ := hp
            have h_x0 := h_x0.ext hO
            have h_x0r1 := h_x0r1.ext hO
            have h_x1 := h_x1.ext hO
            have h_x1r1 := h_x1r1.ext hO
            have had6 := had6.ext hO
            have hF := hF.trans (hO.mono (fun _ _ z => z.elim))
            refine lv_astore_n (lv' := [(3, .ref ad11), (0, .ref x0), (2, .int o4)]) hx hb dJ16_subtract_2_103 rfl hl (by decide) rfl (fun ls hl => ?_)
            refine r_new (k := 2) hx hb hts hown hS rfl in_J16 tyJ16 tyJ16_ok q426 q427 q57 (fs := [.int 0, .null, .int 0, .int 0, .int 0, .int 0]) rfl (by decide) (Nat.le_of_ble_eq_true rfl) (Nat.le_of_ble_eq_true rfl) dJ16_subtract_2_104 (fun ad12 H eq_ad12 hS hE had12 z_ad12 hB_had12 => ?_)
            have gad12 : s.heap.size ≤ ad12 := by have := hF.1; omega
            have ne_h_x0_had12 : x0 ≠ ad12 := by have := h_x0.lt; omega
            have h_x0 := h_x0.ext hE
            have ne_h_x0r1_had12 : x0r1 ≠ ad12 := by have := h_x0r1.lt; omega
            have h_x0r1 := h_x0r1.ext hE
            have ne_h_x1_had12 : x1 ≠ ad12 := by have := h_x1.lt; omega
            have h_x1 := h_x1.ext hE
            have ne_h_x1r1_had12 : x1r1 ≠ ad12 := by have := h_x1r1.lt; omega
            have h_x1r1 := h_x1r1.ext hE
            have ne_had6_had12 : ad6 ≠ ad12 := by have := had6.lt; omega
            have had6 := had6.ext hE
            have ne_had11_had12 : ad11 ≠ ad12 := by have := had11.lt; omega
            have had11 := had11.ext hE
            have hF := hF.trans (hE.mono (fun _ _ z => z.elim))
            refine lv_dup hx hb dJ16_subtract_2_107 rfl ?_
            refine lv_aload_n hx hb dJ16_subtract_2_108 rfl (lv_at hl 0 rfl) ?_
            refine lv_iload_n hx hb dJ16_subtract_2_109 rfl (lv_at hl 2 rfl) ?_
            refine lv_aload_n hx hb dJ16_subtract_2_110 rfl (lv_at hl 1 rfl) ?_
            refine r_get hx hb hts hown hS h_x0 rfl in_J16 0 (by decide) q435 rfl (v := .int x0f0) rfl dJ16_subtract_2_111 ?_
            refine lv_icmp_ne (tgt := 121) hx hb dJ16_subtract_2_114 (by decide) (fun c13 => ?_) (fun c13 => ?_)
            · have h := it_neg h c13
              refine lv_iconst (v := (-1)) hx hb dJ16_subtract_2_121 (by decide) ?_
              obtain ⟨o14, eo14, h⟩ := bind_step h
              refine r_cv (r_runI (rest := [.ref ad12]) (As := [.ref ad11, .int (-1)]) hC 2 (m_J16_init_2 ad12 ad11  o10.1 o10.2 (-1) o14 eo14) q473 q474 q57 q475 rfl hd_J16_init_2 rfl ⟨Nat.le_of_ble_eq_true rfl, Nat.le_of_ble_eq_true rfl⟩ hS ⟨had12, hB_had12, had11, lo10_1, (Ne.symm ne_had11_had12)⟩ hl.1 rfl (Nat.le_of_ble_eq_true rfl) dJ16_subtract_2_122 ⟨Nat.le_of_ble_eq_true rfl, Nat.le_of_ble_eq_true rfl⟩) hS (fun H locs hp hS hz => ?_)
              obtain ⟨had12, hO⟩ := hp
              have h_x0 := h_x0.off hO ne_h_x0_had12
              have h_x0r1 := h_x0r1.off hO ne_h_x0r1_had12
              have h_x1 := h_x1.off hO ne_h_x1_had12
              have h_x1r1 := h_x1r1.off hO ne_h_x1r1_had12
              have had6 := had6.off hO ne_had6_had12
              have had11 := had11.off hO ne_had11_had12
              have hF := hF.fresh hO (fun a ha z => absurd (z ▸ ha) (Nat.not_lt.mpr gad12))
              obtain rfl := Option.some.inj h
              rw [eQ]
              exact r_aret hx hb hr (Or.inl ⟨_, rfl⟩) hlk hS (Nat.le_of_ble_eq_true rfl) (Nat.le_of_ble_eq_true rfl) dJ16_subtract_2_125 ⟨_, rfl, ad11, 0, 0, 0, 0, had12.OA, had11, lo10_1, hF⟩
            · have h := it_pos h c13
              refine lv_iconst (v := 1) hx hb dJ16_subtract_2_117 (by decide) ?_
              refine lv_goto (tgt := 122) hx hb dJ16_subtract_2_118 (by decide) ?_
              obtain ⟨o15, eo15, h⟩ := bind_step h
              refine r_cv (r_runI (rest := [.ref ad12]) (As := [.ref ad11, .int 1]) hC 2 (m_J16_init_2 ad12 ad11  o10.1 o10.2 1 o15 eo15) q473 q474 q57 q475 rfl hd_J16_init_2 rfl ⟨Nat.le_of_ble_eq_true rfl, Nat.le_of_ble_eq_true rfl⟩ hS ⟨had12, hB_had12, had11, lo10_1, (Ne.symm ne_had11_had12)⟩ hl.1 rfl (Nat.le_of_ble_eq_true rfl) dJ16_subtract_2_122 ⟨Nat.le_of_ble_eq_true rfl, Nat.le_of_ble_eq_true rfl⟩) hS (fun H locs hp hS hz => ?_)
              obtain ⟨had12, hO⟩ := hp
              have h_x0 := h_x0.off hO ne_h_x0_had12
              have h_x0r1 := h_x0r1.off hO ne_h_x0r1_had12
              have h_x1 := h_x1.off hO ne_h_x1_had12
              have h_x1r1 := h_x1r1.off hO ne_h_x1r1_had12
              have had6 := had6.off hO ne_had6_had12
              have had11 := had11.off hO ne_had11_had12
              have hF := hF.fresh hO (fun a ha z => absurd (z ▸ ha) (Nat.not_lt.mpr gad12))
              obtain rfl := Option.some.inj h
              rw [eQ]
              exact r_aret hx hb hr (Or.inl ⟨_, rfl⟩) hlk hS (Nat.le_of_ble_eq_true rfl) (Nat.le_of_ble_eq_true rfl) dJ16_subtract_2_125 ⟨_, rfl, ad11, 0, 0, 0, 0, had12.OA, had11, lo10_1, hF⟩
          clear eK9
          refine lv_if_le (tgt := 87) hx hb dJ16_subtract_2_70 (by decide) (fun c16 => ?_) (fun c16 => ?_)
          · have h := it_pos h c16
            refine lv_aload_n hx hb dJ16_subtract_2_87 rfl (lv_at hl 2 rfl) ?_
            refine r_get hx hb hts hown hS h_x1 rfl in_J16 1 (by decide) q436 rfl (v := .ref x1r1) rfl dJ16_subtract_2_88 ?_
            refine lv_aload_n hx hb dJ16_subtract_2_91 rfl (lv_at hl 1 rfl) ?_
            refine r_get hx hb hts hown hS h_x0 rfl in_J16 1 (by decide) q436 rfl (v := .ref x0r1) rfl dJ16_subtract_2_92 ?_
            obtain ⟨o17, eo17, h⟩ := bind_step h
            refine r_cr (r_runS (rest := []) (As := [.ref x1r1, .ref x0r1]) hC 2 (m_J16_subtract x1r1 x0r1  x1r1n x1r1c x0r1n x0r1c o17 eo17) q840 q841 q57 q842 hd_J16_subtract rfl ⟨Nat.le_of_ble_eq_true rfl, Nat.le_of_ble_eq_true rfl⟩ hS ⟨h_x1r1, l_x1r1, h_x0r1, l_x0r1⟩ hl.1 rfl (Nat.le_of_ble_eq_true rfl) dJ16_subtract_2_95 ⟨Nat.le_of_ble_eq_true rfl, Nat.le_of_ble_eq_true rfl⟩) hS (fun ad18 H locs hp hS hz => ?_)
            obtain ⟨had18, lo17_1, frad18, hO⟩ := hp
            have ne_h_x0_had18 : x0 ≠ ad18 := Nat.ne_of_lt (Nat.lt_of_lt_of_le h_x0.lt frad18)
            have ne_h_x0r1_had18 : x0r1 ≠ ad18 := Nat.ne_of_lt (Nat.lt_of_lt_of_le h_x0r1.lt frad18)
            have ne_h_x1_had18 : x1 ≠ ad18 := Nat.ne_of_lt (Nat.lt_of_lt_of_le h_x1.lt frad18)
            have ne_h_x1r1_had18 : x1r1 ≠ ad18 := Nat.ne_of_lt (Nat.lt_of_lt_of_le h_x1r1.lt frad18)
            have gad18 : s.heap.size ≤ ad18 := Nat.le_trans hF.1 frad18
            have hB_had18 : dB D ≤ ad18 := by have := hS0.1.2.2.1; omega
            have h_x0 := h_x0.ext hO
            have h_x0r1 := h_x0r1.ext hO
            have h_x1 := h_x1.ext hO
            have h_x1r1 := h_x1r1.ext hO
            have hF := hF.trans (hO.mono (fun _ _ z => z.elim))
            exact HK9 o17.1 o17.2 h ad18 lo17_1 hB_had18 gad18 ne_h_x0_had18 ne_h_x0r1_had18 ne_h_x1_had18 ne_h_x1r1_had18 H locs hS hF h_x0 h_x0r1 h_x1 h_x1r1 had18 ls (lv_sub hl [1, 0] rfl)
          · have h := it_neg h c16
            refine lv_aload_n hx hb dJ16_subtract_2_73 rfl (lv_at hl 1 rfl) ?_
            refine r_get hx hb hts hown hS h_x0 rfl in_J16 1 (by decide) q436 rfl (v := .ref x0r1) rfl dJ16_subtract_2_74 ?_
            refine lv_aload_n hx hb dJ16_subtract_2_77 rfl (lv_at hl 2 rfl) ?_
            refine r_get hx hb hts hown hS h_x1 rfl in_J16 1 (by decide) q436 rfl (v := .ref x1r1) rfl dJ16_subtract_2_78 ?_
            obtain ⟨o19, eo19, h⟩ := bind_step h
            refine r_cr (r_runS (rest := []) (As := [.ref x0r1, .ref x1r1]) hC 2 (m_J16_subtract x0r1 x1r1  x0r1n x0r1c x1r1n x1r1c o19 eo19) q840 q841 q57 q842 hd_J16_subtract rfl ⟨Nat.le_of_ble_eq_true rfl, Nat.le_of_ble_eq_true rfl⟩ hS ⟨h_x0r1, l_x0r1, h_x1r1, l_x1r1⟩ hl.1 rfl (Nat.le_of_ble_eq_true rfl) dJ16_subtract_2_81 ⟨Nat.le_of_ble_eq_true rfl, Nat.le_of_ble_eq_true rfl⟩) hS (fun ad20 H locs hp hS hz => ?_)
            obtain ⟨had20, lo19_1, frad20, hO⟩ := hp
            have ne_h_x0_had20 : x0 ≠ ad20 := Nat.ne_of_lt (Nat.lt_of_lt_of_le h_x0.lt frad20)
            have ne_h_x0r1_had20 : x0r1 ≠ ad20 := Nat.ne_of_lt (Nat.lt_of_lt_of_le h_x0r1.lt frad20)
            have ne_h_x1_had20 : x1 ≠ ad20 := Nat.ne_of_lt (Nat.lt_of_lt_of_le h_x1.lt frad20)
            have ne_h_x1r1_had20 : x1r1 ≠ ad20 := Nat.ne_of_lt (Nat.lt_of_lt_of_le h_x1r1.lt frad20)
            have gad20 : s.heap.size ≤ ad20 := Nat.le_trans hF.1 frad20
            have hB_had20 : dB D ≤ ad20 := by have := hS0.1.2.2.1; omega
            have h_x0 := h_x0.ext hO
            have h_x0r1 := h_x0r1.ext hO
            have h_x1 := h_x1.ext hO
            have h_x1r1 := h_x1r1.ext hO
            have hF := hF.trans (hO.mono (fun _ _ z => z.elim))
            refine lv_goto (tgt := 98) hx hb dJ16_subtract_2_84 (by decide) ?_
            exact HK9 o19.1 o19.2 h ad20 lo19_1 hB_had20 gad20 ne_h_x0_had20 ne_h_x0r1_had20 ne_h_x1_had20 ne_h_x1r1_had20 H locs hS hF h_x0 h_x0r1 h_x1 h_x1r1 had20 ls (lv_sub hl [1, 0] rfl)
        · have h := it_pos h c5
          refine r_gets hx hb hts hown hS 14 rfl q418 dJ16_subtract_2_65 ?_
          obtain ⟨ay21, by21, cy21, dy21, zy21⟩ := hS0.1.1.2.2.2.2.1.2.1
          obtain ⟨fy21, wy21⟩ := hS0.1.1.2.2.2.2.1.2.2.1
          have wy21 : aI D (dN D 15) 0 (fun _ => 0) D.1.heap := RA.congr wy21 (fun j hj => absurd hj (Nat.not_lt_zero j))
          obtain rfl := Option.some.inj h
          rw [eQ]
          exact r_aret hx hb hr (Or.inl ⟨_, rfl⟩) hlk hS (Nat.le_of_ble_eq_true rfl) (Nat.le_of_ble_eq_true rfl) dJ16_subtract_2_68 ⟨_, rfl, (dN D 15), ay21, by21, cy21, dy21, (hS.1.OA zy21), (hS.1.RA wy21), (Nat.le_of_ble_eq_true rfl), hF⟩
      · have h := it_neg h c3
        refine r_new (k := 2) hx hb hts hown hS rfl in_J16 tyJ16 tyJ16_ok q426 q427 q57 (fs := [.int 0, .null, .int 0, .int 0, .int 0, .int 0]) rfl (by decide) (Nat.le_of_ble_eq_true rfl) (Nat.le_of_ble_eq_true rfl) dJ16_subtract_2_32 (fun ad22 H eq_ad22 hS hE had22 z_ad22 hB_had22 => ?_)
        have gad22 : s.heap.size ≤ ad22 := by have := hF.1; omega
        have ne_h_x0_had22 : x0 ≠ ad22 := by have := h_x0.lt; omega
        have h_x0 := h_x0.ext hE
        have ne_h_x0r1_had22 : x0r1 ≠ ad22 := by have := h_x0r1.lt; omega
        have h_x0r1 := h_x0r1.ext hE
        have ne_h_x1_had22 : x1 ≠ ad22 := by have := h_x1.lt; omega
        have h_x1 := h_x1.ext hE
        have ne_h_x1r1_had22 : x1r1 ≠ ad22 := by have := h_x1r1.lt; omega
        have h_x1r1 := h_x1r1.ext hE
        have hF := hF.trans (hE.mono (fun _ _ z => z.elim))
        refine lv_dup hx hb dJ16_subtract_2_35 rfl ?_
        refine lv_aload_n hx hb dJ16_subtract_2_36 rfl (lv_at hl 0 rfl) ?_
        refine r_get hx hb hts hown hS h_x0 rfl in_J16 1 (by decide) q436 rfl (v := .ref x0r1) rfl dJ16_subtract_2_37 ?_
        refine lv_aload_n hx hb dJ16_subtract_2_40 rfl (lv_at hl 1 rfl) ?_
        refine r_get hx hb hts hown hS h_x1 rfl in_J16 1 (by decide) q436 rfl (v := .ref x1r1) rfl dJ16_subtract_2_41 ?_
        obtain ⟨o23, eo23, h⟩ := bind_step h
        refine r_cr (r_runS (rest := [.ref ad22, .ref ad22]) (As := [.ref x0r1, .ref x1r1]) hC 2 (m_J16_add_2 x0r1 x1r1  x0r1n x0r1c x1r1n x1r1c o23 eo23) q833 q834 q57 q835 hd_J16_add_2 rfl ⟨Nat.le_of_ble_eq_true rfl, Nat.le_of_ble_eq_true rfl⟩ hS ⟨h_x0r1, l_x0r1, h_x1r1, l_x1r1⟩ hl.1 rfl (Nat.le_of_ble_eq_true rfl) dJ16_subtract_2_44 ⟨Nat.le_of_ble_eq_true rfl, Nat.le_of_ble_eq_true rfl⟩) hS (fun ad24 H locs hp hS hz => ?_)
        obtain ⟨had24, lo23_1, frad24, hO⟩ := hp
        have ne_h_x0_had24 : x0 ≠ ad24 := Nat.ne_of_lt (Nat.lt_of_lt_of_le h_x0.lt frad24)
        have ne_h_x0r1_had24 : x0r1 ≠ ad24 := Nat.ne_of_lt (Nat.lt_of_lt_of_le h_x0r1.lt frad24)
        have ne_h_x1_had24 : x1 ≠ ad24 := Nat.ne_of_lt (Nat.lt_of_lt_of_le h_x1.lt frad24)
        have ne_h_x1r1_had24 : x1r1 ≠ ad24 := Nat.ne_of_lt (Nat.lt_of_lt_of_le h_x1r1.lt frad24)
        have ne_had22_had24 : ad22 ≠ ad24 := Nat.ne_of_lt (Nat.lt_of_lt_of_le had22.lt frad24)
        have gad24 : s.heap.size ≤ ad24 := Nat.le_trans hF.1 frad24
        have hB_had24 : dB D ≤ ad24 := by have := hS0.1.2.2.1; omega
        have h_x0 := h_x0.ext hO
        have h_x0r1 := h_x0r1.ext hO
        have h_x1 := h_x1.ext hO
        have h_x1r1 := h_x1r1.ext hO
        have had22 := had22.ext hO
        have hF := hF.trans (hO.mono (fun _ _ z => z.elim))
        refine lv_aload_n hx hb dJ16_subtract_2_47 rfl (lv_at hl 0 rfl) ?_
        refine r_get hx hb hts hown hS h_x0 rfl in_J16 0 (by decide) q435 rfl (v := .int x0f0) rfl dJ16_subtract_2_48 ?_
        obtain ⟨o25, eo25, h⟩ := bind_step h
        refine r_cv (r_runI (rest := [.ref ad22]) (As := [.ref ad24, .int x0f0]) hC 2 (m_J16_init_2 ad22 ad24  o23.1 o23.2 x0f0 o25 eo25) q473 q474 q57 q475 rfl hd_J16_init_2 rfl ⟨Nat.le_of_ble_eq_true rfl, Nat.le_of_ble_eq_true rfl⟩ hS ⟨had22, hB_had22, had24, lo23_1, ne_had22_had24⟩ hl.1 rfl (Nat.le_of_ble_eq_true rfl) dJ16_subtract_2_51 ⟨Nat.le_of_ble_eq_true rfl, Nat.le_of_ble_eq_true rfl⟩) hS (fun H locs hp hS hz => ?_)
        obtain ⟨had22, hO⟩ := hp
        have h_x0 := h_x0.off hO ne_h_x0_had22
        have h_x0r1 := h_x0r1.off hO ne_h_x0r1_had22
        have h_x1 := h_x1.off hO ne_h_x1_had22
        have h_x1r1 := h_x1r1.off hO ne_h_x1r1_had22
        have had24 := had24.off hO (Ne.symm ne_had22_had24)
        have hF := hF.fresh hO (fun a ha z => absurd (z ▸ ha) (Nat.not_lt.mpr gad22))
        obtain rfl := Option.some.inj h
        rw [eQ]
        exact r_aret hx hb hr (Or.inl ⟨_, rfl⟩) hlk hS (Nat.le_of_ble_eq_true rfl) (Nat.le_of_ble_eq_true rfl) dJ16_subtract_2_54 ⟨_, rfl, ad24, 0, 0, 0, 0, had22.OA, had24, lo23_1, hF⟩
    · have h := it_pos h c2
      refine lv_aload_n hx hb dJ16_subtract_2_16 rfl (lv_at hl 1 rfl) ?_
      obtain ⟨o26, eo26, h⟩ := bind_step h
      refine r_cr (r_runV (rest := []) (As := []) hC 0 (m_J16_negate x1 x1r1 x1e2 x1e3 x1e4 x1e5 x1f0 x1r1n x1r1c o26 eo26) q816 q817 q818 q57 q819 (OA.recv hS h_x1 (C := RJ16) rfl) hd_J16_negate rfl ⟨Nat.le_of_ble_eq_true rfl, Nat.le_of_ble_eq_true rfl⟩ hS ⟨h_x1, h_x1r1, l_x1r1⟩ hl.1 rfl (Nat.le_of_ble_eq_true rfl) dJ16_subtract_2_17 ⟨Nat.le_of_ble_eq_true rfl, Nat.le_of_ble_eq_true rfl⟩) hS (fun ad27 H locs hp hS hz => ?_)
      obtain ⟨ad28, e29, e30, e31, e32, had27, had28, lo26_2_1, hO⟩ := hp
      have h_x0 := h_x0.ext hO
      have h_x0r1 := h_x0r1.ext hO
      have h_x1 := h_x1.ext hO
      have h_x1r1 := h_x1r1.ext hO
      have hF := hF.trans (hO.mono (fun _ _ z => z.elim))
      obtain rfl := Option.some.inj h
      rw [eQ]
      exact r_aret hx hb hr (Or.inl ⟨_, rfl⟩) hlk hS (Nat.le_of_ble_eq_true rfl) (Nat.le_of_ble_eq_true rfl) dJ16_subtract_2_20 ⟨_, rfl, ad28, e29, e30, e31, e32, had27, had28, lo26_2_1, hF⟩
  · have h := it_pos h c1
    refine lv_aload_n hx hb dJ16_subtract_2_7 rfl (lv_at hl 0 rfl) ?_
    obtain rfl := Option.some.inj h
    rw [eQ]
    exact r_aret hx hb hr (Or.inl ⟨_, rfl⟩) hlk hS (Nat.le_of_ble_eq_true rfl) (Nat.le_of_ble_eq_true rfl) dJ16_subtract_2_8 ⟨_, rfl, x0r1, x0e2, x0e3, x0e4, x0e5, h_x0, h_x0r1, l_x0r1, hF⟩

abbrev R_J16_shiftRightImplWorker : Room := { frames := 0, cells := 0, slots := 0, locals := 0 }
noncomputable def f_J16_shiftRightImplWorker (x0n : Nat) (x0c : Nat → Int32) (x1n : Nat) (x1c : Nat → Int32) (x2 : Int32) (x3 : Int32) (x4 : Int32) : Option ((Nat → Int32)) :=
  lti (32 - x3) fun v1 =>
  (if x2 = 0 then
    lti (x4 - 1) fun v34 =>
    lt (fun (f35 : Nat → Int32) (v36 : Int32) (v37 : Int32) =>
    (show Option (Sum ((Nat → Int32) × Int32 × Int32) ((Nat → Int32))) from (
    (if v37 < x2 then
      some (.inr f35)
    else
      lti (v37 + (-1)) fun v55 =>
      lti (v36 + (-1)) fun v56 =>
      gd x1n v36 fun i57 =>
      lti (x1c i57) fun v58 =>
      lti (((v58 : Int32).toUInt32 >>> ((x3 : Int32).toUInt32 &&& Int32.toUInt32 31)).toInt32) fun v59 =>
      gd x1n v56 fun i60 =>
      lti (x1c i60) fun v61 =>
      lti (v61 <<< (v1 &&& 31)) fun v62 =>
      lti (v59 ||| v62) fun v63 =>
      gd x0n v37 fun i64 =>
      lt (va_up f35 i64 v63) fun f65 =>
      some (.inl (f65, v56, v55))
    )
    ))
    ) fun F51 =>
    Option.bind (lp 41 (fun x => F51 x.1 x.2.1 x.2.2) (x0c, x4, v34)) fun w52 =>
    some w52
  else
    lt (fun (f3 : Nat → Int32) (v4 : Int32) (v5 : Int32) =>
    (show Option (Sum ((Nat → Int32) × Int32 × Int32) ((Nat → Int32))) from (
    (if v5 < x2 then
      some (.inr f3)
    else
      lti (v5 + (-1)) fun v23 =>
      lti (v4 + (-1)) fun v24 =>
      gd x1n v4 fun i25 =>
      lti (x1c i25) fun v26 =>
      lti (((v26 : Int32).toUInt32 >>> ((x3 : Int32).toUInt32 &&& Int32.toUInt32 31)).toInt32) fun v27 =>
      gd x1n v24 fun i28 =>
      lti (x1c i28) fun v29 =>
      lti (v29 <<< (v1 &&& 31)) fun v30 =>
      lti (v27 ||| v30) fun v31 =>
      gd x0n v5 fun i32 =>
      lt (va_up f3 i32 v31) fun f33 =>
      some (.inl (f33, v24, v23))
    )
    ))
    ) fun F19 =>
    Option.bind (lp 41 (fun x => F19 x.1 x.2.1 x.2.2) (x0c, x4, x4)) fun w20 =>
    some w20
  )
theorem hd_J16_shiftRightImplWorker : Hd yJ16_shiftRightImplWorker 5 := by unfold Hd; decide +kernel
set_option maxHeartbeats 4000000 in
set_option maxRecDepth 100000 in
theorem m_J16_shiftRightImplWorker {l : Launch} {D : DD} (x0 : Nat) (x1 : Nat)  (x0n : Nat) (x0c : Nat → Int32) (x1n : Nat) (x1c : Nat → Int32) (x2 : Int32) (x3 : Int32) (x4 : Int32) (r : (Nat → Int32)) (h : f_J16_shiftRightImplWorker x0n x0c x1n x1c x2 x3 x4 = some r) : MT l D yJ16_shiftRightImplWorker cJ16_shiftRightImplWorker 8 none 0 0 0 0 [.ref x0, .ref x1, .int x2, .int x3, .int x4] (fun H => aI D x0 x0n x0c H ∧ x0n ≤ 1000000 ∧ dB D ≤ x0 ∧ aI D x1 x1n x1c H ∧ x1n ≤ 1000000 ∧ x0 ≠ x1) (pV (fun H H' => aI D x0 x0n r H' ∧ Off (fun a => a = x0) H H')) := by
  refine MT.start (by decide +kernel) (Nat.le_of_ble_eq_true rfl) ?_
  intro p e s m below meth c ls hC hS hp hl
  obtain ⟨h_x0, l_x0, hB_h_x0, h_x1, l_x1, ne_x0_x1⟩ := hp
  obtain ⟨hx, hb, hr, hlk, hml, hown, hts, hnm⟩ := id hC
  have hl : lv_has ls 8 [(0, .ref x0), (1, .ref x1), (2, .int x2), (3, .int x3), (4, .int x4)] := hl
  unfold f_J16_shiftRightImplWorker at h
  have hS0 := hS
  obtain ⟨A, eA⟩ : ∃ A : Array Value, A = [.ref x0, .ref x1, .int x2, .int x3, .int x4].toArray := ⟨_, rfl⟩
  rw [← eA] at hC hts ⊢
  obtain ⟨Q, eQ⟩ : ∃ Q : State → Prop, Q = MQ below (TQ D (pV (fun H H' => aI D x0 x0n r H' ∧ Off (fun a => a = x0) H H'))) A s 0 0 (fun q => dB D ≤ q) := ⟨_, rfl⟩
  have hF : Off (fun a => a = x0) s.heap s.heap := Off.rf
  show W p l e R_J16_shiftRightImplWorker s m A below meth c s.heap [] 0 0 _ _
  rw [← eQ]
  obtain ⟨H, eH⟩ : ∃ H : Heap, H = s.heap := ⟨_, rfl⟩
  obtain ⟨locs, eLc⟩ : ∃ L : List Loc, L = [] := ⟨_, rfl⟩
  have lt_h_x0 := h_x0.lt
  have lt_h_x1 := h_x1.lt
  rw [← eH, ← eLc]
  have hF : Off (fun a => a = x0) s.heap H := by rw [eH]; exact hF
  rw [← eH] at h_x0
  rw [← eH] at h_x1
  have hS : St D s H locs := by rw [eH, eLc]; exact hS
  refine lv_bipush (v := 32) hx hb dJ16_shiftRightImplWorker_0 (by decide) ?_
  refine lv_iload_n hx hb dJ16_shiftRightImplWorker_2 rfl (lv_at hl 3 rfl) ?_
  obtain ⟨v1, ev1, h⟩ := lti_step h
  refine r_isub hx hb ev1 dJ16_shiftRightImplWorker_3 ?_
  refine lv_istore (lv' := [(5, .int v1), (0, .ref x0), (1, .ref x1), (2, .int x2), (3, .int x3), (4, .int x4)]) hx hb dJ16_shiftRightImplWorker_4 hl (by decide) rfl (fun ls hl => ?_)
  refine lv_iload hx hb dJ16_shiftRightImplWorker_6 (lv_at hl 5 rfl) ?_
  refine lv_istore (lv' := [(6, .int x4), (5, .int v1), (0, .ref x0), (1, .ref x1), (2, .int x2), (3, .int x3), (4, .int x4)]) hx hb dJ16_shiftRightImplWorker_8 hl (by decide) rfl (fun ls hl => ?_)
  refine lv_iload_n hx hb dJ16_shiftRightImplWorker_10 rfl (lv_at hl 4 rfl) ?_
  refine lv_if_ne (tgt := 21) hx hb dJ16_shiftRightImplWorker_11 (by decide) (fun c2 => ?_) (fun c2 => ?_)
  · have h := it_neg h c2
    refine lv_iload hx hb dJ16_shiftRightImplWorker_21 (lv_at hl 6 rfl) ?_
    refine lv_istore (lv' := [(7, .int x4), (6, .int x4), (5, .int v1), (0, .ref x0), (1, .ref x1), (2, .int x2), (3, .int x3), (4, .int x4)]) hx hb dJ16_shiftRightImplWorker_23 hl (by decide) rfl (fun ls hl => ?_)
    obtain ⟨F19, eF19, h⟩ := lt_step h
    obtain ⟨w20, ew20, h⟩ := bind_step h
    have HL : ∀ (n : Nat) (f3 : Nat → Int32) (v4 : Int32) (v5 : Int32) (w20 : (Nat → Int32)) (hk0 : lp n (fun x => F19 x.1 x.2.1 x.2.2) (f3, v4, v5) = some w20)  (H : Heap) (locs : List Loc) (hS : St D s H locs) (hF : Off (fun a => a = x0) s.heap H) (h_x0 : aI D x0 x0n f3 H) (h_x1 : aI D x1 x1n x1c H) (ls : Array Slot) (hl : lv_has ls 8 [(0, .ref x0), (1, .ref x1), (2, .int x2), (3, .int x3), (5, .int v1), (6, .int v4), (7, .int v5)]) (K58 : ∀ (H : Heap) (locs : List Loc) (hS : St D s H locs) (hF : Off (fun a => a = x0) s.heap H) (h_x0 : aI D x0 x0n w20 H) (h_x1 : aI D x1 x1n x1c H) (ls : Array Slot) (hl : lv_has ls 8 []), W p l e R_J16_shiftRightImplWorker s m A below meth c H locs 0 0 Q (F0 m 58 ls [])), W p l e R_J16_shiftRightImplWorker s m A below meth c H locs 0 0 Q (F0 m 25 ls []) := by
      intro n
      induction n with
      | zero => intro f3 v4 v5 w20 hk0  H locs hS hF h_x0 h_x1 ls hl K58; exact lp_zero hk0
      | succ n ih =>
        intro f3 v4 v5 w20 hk0  H locs hS hF h_x0 h_x1 ls hl K58
        obtain ⟨z21, hz, hk⟩ := lp_step hk0
        have h := (congrFun (congrFun (congrFun (eF19) f3) v4) v5).symm.trans hz
        refine lv_iload hx hb dJ16_shiftRightImplWorker_25 (lv_at hl 6 rfl) ?_
        refine lv_iload_n hx hb dJ16_shiftRightImplWorker_27 rfl (lv_at hl 2 rfl) ?_
        refine lv_icmp_lt (tgt := 58) hx hb dJ16_shiftRightImplWorker_28 (by decide) (fun c22 => ?_) (fun c22 => ?_)
        · have h := it_pos h c22
          obtain rfl := Option.some.inj h
          obtain rfl := id hk
          exact K58 H locs hS hF h_x0 h_x1 ls (lv_sub hl [] rfl)
        · have h := it_neg h c22
          refine lv_aload_n hx hb dJ16_shiftRightImplWorker_31 rfl (lv_at hl 0 rfl) ?_
          refine lv_iload hx hb dJ16_shiftRightImplWorker_32 (lv_at hl 6 rfl) ?_
          obtain ⟨v23, ev23, h⟩ := lti_step h
          refine lv_iinc (v := v23) (lv' := [(7, .int v23), (0, .ref x0), (1, .ref x1), (2, .int x2), (3, .int x3), (5, .int v1), (6, .int v4)]) hx hb dJ16_shiftRightImplWorker_34 hl (k := 6) rfl (by rw [ev23]; rfl) (by decide) rfl (fun ls hl => ?_)
          refine lv_aload_n hx hb dJ16_shiftRightImplWorker_37 rfl (lv_at hl 2 rfl) ?_
          refine lv_iload hx hb dJ16_shiftRightImplWorker_38 (lv_at hl 6 rfl) ?_
          obtain ⟨v24, ev24, h⟩ := lti_step h
          refine lv_iinc (v := v24) (lv' := [(6, .int v24), (7, .int v23), (0, .ref x0), (1, .ref x1), (2, .int x2), (3, .int x3), (5, .int v1)]) hx hb dJ16_shiftRightImplWorker_40 hl (k := 6) rfl (by rw [ev24]; rfl) (by decide) rfl (fun ls hl => ?_)
          obtain ⟨i25, xi25, h⟩ := gd_step (nl0 l_x1) h
          refine r_iald hx hb hS h_x1 i25 xi25 dJ16_shiftRightImplWorker_43 ?_
          obtain ⟨v26, ev26, h⟩ := lti_step h
          refine r_nmI ev26 ?_
          refine lv_iload_n hx hb dJ16_shiftRightImplWorker_44 rfl (lv_at hl 5 rfl) ?_
          obtain ⟨v27, ev27, h⟩ := lti_step h
          refine r_iushr hx hb ev27 dJ16_shiftRightImplWorker_45 ?_
          refine lv_aload_n hx hb dJ16_shiftRightImplWorker_46 rfl (lv_at hl 3 rfl) ?_
          refine lv_iload hx hb dJ16_shiftRightImplWorker_47 (lv_at hl 0 rfl) ?_
          obtain ⟨i28, xi28, h⟩ := gd_step (nl0 l_x1) h
          refine r_iald hx hb hS h_x1 i28 xi28 dJ16_shiftRightImplWorker_49 ?_
          obtain ⟨v29, ev29, h⟩ := lti_step h
          refine r_nmI ev29 ?_
          refine lv_iload hx hb dJ16_shiftRightImplWorker_50 (lv_at hl 6 rfl) ?_
          obtain ⟨v30, ev30, h⟩ := lti_step h
          refine r_ishl hx hb ev30 dJ16_shiftRightImplWorker_52 ?_
          obtain ⟨v31, ev31, h⟩ := lti_step h
          refine r_ior hx hb ev31 dJ16_shiftRightImplWorker_53 ?_
          obtain ⟨i32, xi32, h⟩ := gd_step (nl0 l_x0) h
          obtain ⟨f33, ef33, h⟩ := lt_step h
          refine r_iast hx hb hS h_x0 hB_h_x0 i32 xi32 dJ16_shiftRightImplWorker_54 (fun H locs hS hO h_x0 => ?_)
          have h_x0 : aI D x0 x0n f33 H := by rw [ef33]; exact h_x0
          have h_x1 := h_x1.off hO (Ne.symm ne_x0_x1)
          have hF := hF.fresh hO (fun a ha z => z)
          refine lv_goto (tgt := 25) hx hb dJ16_shiftRightImplWorker_55 (by decide) ?_
          obtain rfl := Option.some.inj h
          exact ih f33 v24 v23 w20 hk  H locs hS hF h_x0 h_x1 ls (lv_sub hl [2, 3, 4, 5, 6, 0, 1] rfl) K58
    clear eF19
    refine HL 41 x0c x4 x4 w20 ew20  H locs hS hF h_x0 h_x1 ls (lv_sub hl [3, 4, 5, 6, 2, 1, 0] rfl) (fun  H locs hS hF h_x0 h_x1 ls hl => ?_)
    obtain rfl := Option.some.inj h
    rw [eQ]
    exact r_vret hx hb hr hlk hS (Nat.le_of_ble_eq_true rfl) (Nat.le_of_ble_eq_true rfl) dJ16_shiftRightImplWorker_58 ⟨rfl, h_x0, hF⟩
  · have h := it_pos h c2
    refine lv_iload hx hb dJ16_shiftRightImplWorker_14 (lv_at hl 6 rfl) ?_
    refine lv_iconst (v := 1) hx hb dJ16_shiftRightImplWorker_16 (by decide) ?_
    obtain ⟨v34, ev34, h⟩ := lti_step h
    refine r_isub hx hb ev34 dJ16_shiftRightImplWorker_17 ?_
    refine lv_goto (tgt := 23) hx hb dJ16_shiftRightImplWorker_18 (by decide) ?_
    refine lv_istore (lv' := [(7, .int v34), (6, .int x4), (5, .int v1), (0, .ref x0), (1, .ref x1), (2, .int x2), (3, .int x3), (4, .int x4)]) hx hb dJ16_shiftRightImplWorker_23 hl (by decide) rfl (fun ls hl => ?_)
    obtain ⟨F51, eF51, h⟩ := lt_step h
    obtain ⟨w52, ew52, h⟩ := bind_step h
    have HL : ∀ (n : Nat) (f35 : Nat → Int32) (v36 : Int32) (v37 : Int32) (w52 : (Nat → Int32)) (hk0 : lp n (fun x => F51 x.1 x.2.1 x.2.2) (f35, v36, v37) = some w52)  (H : Heap) (locs : List Loc) (hS : St D s H locs) (hF : Off (fun a => a = x0) s.heap H) (h_x0 : aI D x0 x0n f35 H) (h_x1 : aI D x1 x1n x1c H) (ls : Array Slot) (hl : lv_has ls 8 [(0, .ref x0), (1, .ref x1), (2, .int x2), (3, .int x3), (5, .int v1), (6, .int v36), (7, .int v37)]) (K58 : ∀ (H : Heap) (locs : List Loc) (hS : St D s H locs) (hF : Off (fun a => a = x0) s.heap H) (h_x0 : aI D x0 x0n w52 H) (h_x1 : aI D x1 x1n x1c H) (ls : Array Slot) (hl : lv_has ls 8 []), W p l e R_J16_shiftRightImplWorker s m A below meth c H locs 0 0 Q (F0 m 58 ls [])), W p l e R_J16_shiftRightImplWorker s m A below meth c H locs 0 0 Q (F0 m 25 ls []) := by
      intro n
      induction n with
      | zero => intro f35 v36 v37 w52 hk0  H locs hS hF h_x0 h_x1 ls hl K58; exact lp_zero hk0
      | succ n ih =>
        intro f35 v36 v37 w52 hk0  H locs hS hF h_x0 h_x1 ls hl K58
        obtain ⟨z53, hz, hk⟩ := lp_step hk0
        have h := (congrFun (congrFun (congrFun (eF51) f35) v36) v37).symm.trans hz
        refine lv_iload hx hb dJ16_shiftRightImplWorker_25 (lv_at hl 6 rfl) ?_
        refine lv_iload_n hx hb dJ16_shiftRightImplWorker_27 rfl (lv_at hl 2 rfl) ?_
        refine lv_icmp_lt (tgt := 58) hx hb dJ16_shiftRightImplWorker_28 (by decide) (fun c54 => ?_) (fun c54 => ?_)
        · have h := it_pos h c54
          obtain rfl := Option.some.inj h
          obtain rfl := id hk
          exact K58 H locs hS hF h_x0 h_x1 ls (lv_sub hl [] rfl)
        · have h := it_neg h c54
          refine lv_aload_n hx hb dJ16_shiftRightImplWorker_31 rfl (lv_at hl 0 rfl) ?_
          refine lv_iload hx hb dJ16_shiftRightImplWorker_32 (lv_at hl 6 rfl) ?_
          obtain ⟨v55, ev55, h⟩ := lti_step h
          refine lv_iinc (v := v55) (lv' := [(7, .int v55), (0, .ref x0), (1, .ref x1), (2, .int x2), (3, .int x3), (5, .int v1), (6, .int v36)]) hx hb dJ16_shiftRightImplWorker_34 hl (k := 6) rfl (by rw [ev55]; rfl) (by decide) rfl (fun ls hl => ?_)
          refine lv_aload_n hx hb dJ16_shiftRightImplWorker_37 rfl (lv_at hl 2 rfl) ?_
          refine lv_iload hx hb dJ16_shiftRightImplWorker_38 (lv_at hl 6 rfl) ?_
          obtain ⟨v56, ev56, h⟩ := lti_step h
          refine lv_iinc (v := v56) (lv' := [(6, .int v56), (7, .int v55), (0, .ref x0), (1, .ref x1), (2, .int x2), (3, .int x3), (5, .int v1)]) hx hb dJ16_shiftRightImplWorker_40 hl (k := 6) rfl (by rw [ev56]; rfl) (by decide) rfl (fun ls hl => ?_)
          obtain ⟨i57, xi57, h⟩ := gd_step (nl0 l_x1) h
          refine r_iald hx hb hS h_x1 i57 xi57 dJ16_shiftRightImplWorker_43 ?_
          obtain ⟨v58, ev58, h⟩ := lti_step h
          refine r_nmI ev58 ?_
          refine lv_iload_n hx hb dJ16_shiftRightImplWorker_44 rfl (lv_at hl 5 rfl) ?_
          obtain ⟨v59, ev59, h⟩ := lti_step h
          refine r_iushr hx hb ev59 dJ16_shiftRightImplWorker_45 ?_
          refine lv_aload_n hx hb dJ16_shiftRightImplWorker_46 rfl (lv_at hl 3 rfl) ?_
          refine lv_iload hx hb dJ16_shiftRightImplWorker_47 (lv_at hl 0 rfl) ?_
          obtain ⟨i60, xi60, h⟩ := gd_step (nl0 l_x1) h
          refine r_iald hx hb hS h_x1 i60 xi60 dJ16_shiftRightImplWorker_49 ?_
          obtain ⟨v61, ev61, h⟩ := lti_step h
          refine r_nmI ev61 ?_
          refine lv_iload hx hb dJ16_shiftRightImplWorker_50 (lv_at hl 6 rfl) ?_
          obtain ⟨v62, ev62, h⟩ := lti_step h
          refine r_ishl hx hb ev62 dJ16_shiftRightImplWorker_52 ?_
          obtain ⟨v63, ev63, h⟩ := lti_step h
          refine r_ior hx hb ev63 dJ16_shiftRightImplWorker_53 ?_
          obtain ⟨i64, xi64, h⟩ := gd_step (nl0 l_x0) h
          obtain ⟨f65, ef65, h⟩ := lt_step h
          refine r_iast hx hb hS h_x0 hB_h_x0 i64 xi64 dJ16_shiftRightImplWorker_54 (fun H locs hS hO h_x0 => ?_)
          have h_x0 : aI D x0 x0n f65 H := by rw [ef65]; exact h_x0
          have h_x1 := h_x1.off hO (Ne.symm ne_x0_x1)
          have hF := hF.fresh hO (fun a ha z => z)
          refine lv_goto (tgt := 25) hx hb dJ16_shiftRightImplWorker_55 (by decide) ?_
          obtain rfl := Option.some.inj h
          exact ih f65 v56 v55 w52 hk  H locs hS hF h_x0 h_x1 ls (lv_sub hl [2, 3, 4, 5, 6, 0, 1] rfl) K58
    clear eF51
    refine HL 41 x0c x4 v34 w52 ew52  H locs hS hF h_x0 h_x1 ls (lv_sub hl [3, 4, 5, 6, 2, 1, 0] rfl) (fun  H locs hS hF h_x0 h_x1 ls hl => ?_)
    obtain rfl := Option.some.inj h
    rw [eQ]
    exact r_vret hx hb hr hlk hS (Nat.le_of_ble_eq_true rfl) (Nat.le_of_ble_eq_true rfl) dJ16_shiftRightImplWorker_58 ⟨rfl, h_x0, hF⟩

abbrev R_J16_javaIncrement : Room := { frames := 0, cells := 1, slots := 12, locals := 0 }
noncomputable def f_J16_javaIncrement (x1n : Nat) (x1c : Nat → Int32) : Option (Nat × (Nat → Int32) × (Nat → Int32)) :=
  lti ((nI x1n) - 1) fun v1 =>
  lt (fun (f2 : Nat → Int32) (v3 : Int32) (v4 : Int32) =>
  (show Option (Sum ((Nat → Int32) × Int32 × Int32) ((Nat → Int32) × Int32)) from (
  (if v4 < 0 then
    some (.inr (f2, v3))
  else
    (if v3 = 0 then
      gd x1n v4 fun i20 =>
      lti (f2 i20) fun v21 =>
      lti (v21 + 1) fun v22 =>
      gd x1n v4 fun i23 =>
      lt (va_up f2 i23 v22) fun f24 =>
      lti (v4 + (-1)) fun v25 =>
      some (.inl (f24, v22, v25))
    else
      some (.inr (f2, v3))
    )
  )
  ))
  ) fun F15 =>
  Option.bind (lp 41 (fun x => F15 x.1 x.2.1 x.2.2) (x1c, 0, v1)) fun w16 =>
  (if w16.2 = 0 then
    lti ((nI x1n) + 1) fun v27 =>
    gl 12 v27 fun n29 =>
    gd n29 0 fun i30 =>
    lt (va_up (fun _ => 0) i30 1) fun f31 =>
    some (n29, f31, w16.1)
  else
    some (x1n, w16.1, w16.1)
  )
theorem hd_J16_javaIncrement : Hd yJ16_javaIncrement 1 := by unfold Hd; decide +kernel
set_option maxHeartbeats 4000000 in
set_option maxRecDepth 100000 in
theorem m_J16_javaIncrement {l : Launch} {D : DD} (x0 : Nat) (x1 : Nat)  (x1n : Nat) (x1c : Nat → Int32) (r : Nat × (Nat → Int32) × (Nat → Int32)) (h : f_J16_javaIncrement x1n x1c = some r) : MT l D yJ16_javaIncrement cJ16_javaIncrement 4 (some (.array .int)) 0 0 1 12 [.ref x0, .ref x1] (fun H => aI D x1 x1n x1c H ∧ x1n ≤ 1000000 ∧ dB D ≤ x1) (pR (fun H b H' => aI D b r.1 r.2.1 H' ∧ r.1 ≤ 1000000 ∧ aI D x1 x1n r.2.2 H' ∧ Off (fun a => a = x1) H H')) := by
  refine MT.start (by decide +kernel) (Nat.le_of_ble_eq_true rfl) ?_
  intro p e s m below meth c ls hC hS hp hl
  obtain ⟨h_x1, l_x1, hB_h_x1⟩ := hp
  obtain ⟨hx, hb, hr, hlk, hml, hown, hts, hnm⟩ := id hC
  have hl : lv_has ls 4 [(0, .ref x0), (1, .ref x1)] := hl
  unfold f_J16_javaIncrement at h
  have hS0 := hS
  obtain ⟨A, eA⟩ : ∃ A : Array Value, A = [.ref x0, .ref x1].toArray := ⟨_, rfl⟩
  rw [← eA] at hC hts ⊢
  obtain ⟨Q, eQ⟩ : ∃ Q : State → Prop, Q = MQ below (TQ D (pR (fun H b H' => aI D b r.1 r.2.1 H' ∧ r.1 ≤ 1000000 ∧ aI D x1 x1n r.2.2 H' ∧ Off (fun a => a = x1) H H'))) A s 1 12 (fun q => dB D ≤ q) := ⟨_, rfl⟩
  have hF : Off (fun a => a = x1) s.heap s.heap := Off.rf
  show W p l e R_J16_javaIncrement s m A below meth c s.heap [] 0 0 _ _
  rw [← eQ]
  obtain ⟨H, eH⟩ : ∃ H : Heap, H = s.heap := ⟨_, rfl⟩
  obtain ⟨locs, eLc⟩ : ∃ L : List Loc, L = [] := ⟨_, rfl⟩
  have lt_h_x1 := h_x1.lt
  rw [← eH, ← eLc]
  have hF : Off (fun a => a = x1) s.heap H := by rw [eH]; exact hF
  rw [← eH] at h_x1
  have hS : St D s H locs := by rw [eH, eLc]; exact hS
  refine lv_iconst (v := 0) hx hb dJ16_javaIncrement_0 (by decide) ?_
  refine lv_istore_n (lv' := [(2, .int 0), (0, .ref x0), (1, .ref x1)]) hx hb dJ16_javaIncrement_1 rfl hl (by decide) rfl (fun ls hl => ?_)
  refine lv_aload_n hx hb dJ16_javaIncrement_2 rfl (lv_at hl 2 rfl) ?_
  refine r_alen hx hb hS h_x1 dJ16_javaIncrement_3 ?_
  refine lv_iconst (v := 1) hx hb dJ16_javaIncrement_4 (by decide) ?_
  obtain ⟨v1, ev1, h⟩ := lti_step h
  refine r_isub hx hb ev1 dJ16_javaIncrement_5 ?_
  refine lv_istore_n (lv' := [(3, .int v1), (2, .int 0), (0, .ref x0), (1, .ref x1)]) hx hb dJ16_javaIncrement_6 rfl hl (by decide) rfl (fun ls hl => ?_)
  obtain ⟨F15, eF15, h⟩ := lt_step h
  obtain ⟨w16, ew16, h⟩ := bind_step h
  have HL : ∀ (n : Nat) (f2 : Nat → Int32) (v3 : Int32) (v4 : Int32) (w16 : (Nat → Int32) × Int32) (hk0 : lp n (fun x => F15 x.1 x.2.1 x.2.2) (f2, v3, v4) = some w16)  (H : Heap) (locs : List Loc) (hS : St D s H locs) (hF : Off (fun a => a = x1) s.heap H) (h_x1 : aI D x1 x1n f2 H) (ls : Array Slot) (hl : lv_has ls 4 [(1, .ref x1), (2, .int v3), (3, .int v4)]) (K30 : ∀ (H : Heap) (locs : List Loc) (hS : St D s H locs) (hF : Off (fun a => a = x1) s.heap H) (h_x1 : aI D x1 x1n w16.1 H) (ls : Array Slot) (hl : lv_has ls 4 [(1, .ref x1), (2, .int w16.2)]), W p l e R_J16_javaIncrement s m A below meth c H locs 0 0 Q (F0 m 30 ls [])), W p l e R_J16_javaIncrement s m A below meth c H locs 0 0 Q (F0 m 7 ls []) := by
    intro n
    induction n with
    | zero => intro f2 v3 v4 w16 hk0  H locs hS hF h_x1 ls hl K30; exact lp_zero hk0
    | succ n ih =>
      intro f2 v3 v4 w16 hk0  H locs hS hF h_x1 ls hl K30
      obtain ⟨z17, hz, hk⟩ := lp_step hk0
      have h := (congrFun (congrFun (congrFun (eF15) f2) v3) v4).symm.trans hz
      refine lv_iload_n hx hb dJ16_javaIncrement_7 rfl (lv_at hl 2 rfl) ?_
      refine lv_if_lt (tgt := 30) hx hb dJ16_javaIncrement_8 (by decide) (fun c18 => ?_) (fun c18 => ?_)
      · have h := it_pos h c18
        obtain rfl := Option.some.inj h
        obtain rfl := id hk
        exact K30 H locs hS hF h_x1 ls (lv_sub hl [0, 1] rfl)
      · have h := it_neg h c18
        refine lv_iload_n hx hb dJ16_javaIncrement_11 rfl (lv_at hl 1 rfl) ?_
        refine lv_if_ne (tgt := 30) hx hb dJ16_javaIncrement_12 (by decide) (fun c19 => ?_) (fun c19 => ?_)
        · have h := it_neg h c19
          obtain rfl := Option.some.inj h
          obtain rfl := id hk
          exact K30 H locs hS hF h_x1 ls (lv_sub hl [0, 1] rfl)
        · have h := it_pos h c19
          refine lv_aload_n hx hb dJ16_javaIncrement_15 rfl (lv_at hl 0 rfl) ?_
          refine lv_iload_n hx hb dJ16_javaIncrement_16 rfl (lv_at hl 2 rfl) ?_
          refine lv_dup2_11 hx hb dJ16_javaIncrement_17 rfl rfl ?_
          obtain ⟨i20, xi20, h⟩ := gd_step (nl0 l_x1) h
          refine r_iald hx hb hS h_x1 i20 xi20 dJ16_javaIncrement_18 ?_
          obtain ⟨v21, ev21, h⟩ := lti_step h
          refine r_nmI ev21 ?_
          refine lv_iconst (v := 1) hx hb dJ16_javaIncrement_19 (by decide) ?_
          obtain ⟨v22, ev22, h⟩ := lti_step h
          refine r_iadd hx hb ev22 dJ16_javaIncrement_20 ?_
          refine lv_dup_x2 hx hb dJ16_javaIncrement_21 rfl rfl rfl ?_
          obtain ⟨i23, xi23, h⟩ := gd_step (nl0 l_x1) h
          obtain ⟨f24, ef24, h⟩ := lt_step h
          refine r_iast hx hb hS h_x1 hB_h_x1 i23 xi23 dJ16_javaIncrement_22 (fun H locs hS hO h_x1 => ?_)
          have h_x1 : aI D x1 x1n f24 H := by rw [ef24]; exact h_x1
          have hF := hF.fresh hO (fun a ha z => z)
          refine lv_istore_n (lv' := [(2, .int v22), (1, .ref x1), (3, .int v4)]) hx hb dJ16_javaIncrement_23 rfl hl (by decide) rfl (fun ls hl => ?_)
          obtain ⟨v25, ev25, h⟩ := lti_step h
          refine lv_iinc (v := v25) (lv' := [(3, .int v25), (2, .int v22), (1, .ref x1)]) hx hb dJ16_javaIncrement_24 hl (k := 2) rfl (by rw [ev25]; rfl) (by decide) rfl (fun ls hl => ?_)
          refine lv_goto (tgt := 7) hx hb dJ16_javaIncrement_27 (by decide) ?_
          obtain rfl := Option.some.inj h
          exact ih f24 v22 v25 w16 hk  H locs hS hF h_x1 ls (lv_sub hl [2, 1, 0] rfl) K30
  clear eF15
  refine HL 41 x1c 0 v1 w16 ew16  H locs hS hF h_x1 ls (lv_sub hl [3, 1, 0] rfl) (fun  H locs hS hF h_x1 ls hl => ?_)
  refine lv_iload_n hx hb dJ16_javaIncrement_30 rfl (lv_at hl 1 rfl) ?_
  refine lv_if_ne (tgt := 45) hx hb dJ16_javaIncrement_31 (by decide) (fun c26 => ?_) (fun c26 => ?_)
  · have h := it_neg h c26
    refine lv_aload_n hx hb dJ16_javaIncrement_45 rfl (lv_at hl 0 rfl) ?_
    obtain rfl := Option.some.inj h
    rw [eQ]
    exact r_aret hx hb hr (Or.inr ⟨_, rfl⟩) hlk hS (Nat.le_of_ble_eq_true rfl) (Nat.le_of_ble_eq_true rfl) dJ16_javaIncrement_46 ⟨_, rfl, h_x1, l_x1, h_x1, hF⟩
  · have h := it_pos h c26
    refine lv_aload_n hx hb dJ16_javaIncrement_34 rfl (lv_at hl 0 rfl) ?_
    refine r_alen hx hb hS h_x1 dJ16_javaIncrement_35 ?_
    refine lv_iconst (v := 1) hx hb dJ16_javaIncrement_36 (by decide) ?_
    obtain ⟨v27, ev27, h⟩ := lti_step h
    refine r_iadd hx hb ev27 dJ16_javaIncrement_37 ?_
    obtain ⟨n29, xn29, h⟩ := gl_step (by decide) h
    refine r_newaB hx hb hts hS (ty := .int) rfl q453 12 n29 xn29 (by decide) (by decide) (Nat.le_of_ble_eq_true rfl) (Nat.le_of_ble_eq_true rfl) dJ16_javaIncrement_38 (fun ad28 H eq_ad28 hS hE had28 z_ad28 hB_had28 => ?_)
    have had28 : aI D ad28 n29 (fun _ => 0) H := had28
    have gad28 : s.heap.size ≤ ad28 := by have := hF.1; omega
    have ne_h_x1_had28 : x1 ≠ ad28 := by have := h_x1.lt; omega
    have h_x1 := h_x1.ext hE
    have hF := hF.trans (hE.mono (fun _ _ z => z.elim))
    refine lv_astore_n (lv' := [(1, .ref ad28), (2, .int w16.2)]) hx hb dJ16_javaIncrement_40 rfl hl (by decide) rfl (fun ls hl => ?_)
    refine lv_aload_n hx hb dJ16_javaIncrement_41 rfl (lv_at hl 0 rfl) ?_
    refine lv_iconst (v := 0) hx hb dJ16_javaIncrement_42 (by decide) ?_
    refine lv_iconst (v := 1) hx hb dJ16_javaIncrement_43 (by decide) ?_
    obtain ⟨i30, xi30, h⟩ := gd_step (nl0 (le_of_gl xn29 (by decide))) h
    obtain ⟨f31, ef31, h⟩ := lt_step h
    refine r_iast hx hb hS had28 hB_had28 i30 xi30 dJ16_javaIncrement_44 (fun H locs hS hO had28 => ?_)
    have had28 : aI D ad28 n29 f31 H := by rw [ef31]; exact had28
    have h_x1 := h_x1.off hO ne_h_x1_had28
    have hF := hF.fresh hO (fun a ha z => absurd (z ▸ ha) (Nat.not_lt.mpr gad28))
    refine lv_aload_n hx hb dJ16_javaIncrement_45 rfl (lv_at hl 0 rfl) ?_
    obtain rfl := Option.some.inj h
    rw [eQ]
    exact r_aret hx hb hr (Or.inr ⟨_, rfl⟩) hlk hS (Nat.le_of_ble_eq_true rfl) (Nat.le_of_ble_eq_true rfl) dJ16_javaIncrement_46 ⟨_, rfl, had28, (le_of_gl xn29 (by decide)), h_x1, hF⟩

abbrev R_J16_sri_A : Room := { frames := 3, cells := 3, slots := 30, locals := 62 }
noncomputable def f_J16_sri_A (x0f0 : Int32) (x0r1n : Nat) (x0r1c : Nat → Int32) (x1 : Int32) : Option (Int32 × Nat × (Nat → Int32)) :=
  lti (((x1 : Int32).toUInt32 >>> ((5 : Int32).toUInt32 &&& Int32.toUInt32 31)).toInt32) fun v1 =>
  lti (x1 &&& 31) fun v2 =>
  (if v1 < (nI x0r1n) then
    lt (fun (n5 : Nat) (f6 : Nat → Int32) =>
    lt (fun (n9 : Nat) (f10 : Nat → Int32) =>
    Option.bind (f_J16_init_2 n9 f10 x0f0) fun o13 =>
    some (o13, n9, f10)
    ) fun K11 =>
    (if 0 ≤ x0f0 then
      K11 n5 f6
    else
      lti ((nI x0r1n) - 1) fun v15 =>
      lti ((nI x0r1n) - v1) fun v16 =>
      lt (fun (v17 : Bool) (v18 : Int32) =>
      (show Option (Sum (Bool × Int32) (Bool)) from (
      (if v18 < v16 then
        some (.inr v17)
      else
        (if v17 = true then
          some (.inr v17)
        else
          gd x0r1n v18 fun i32 =>
          lti (x0r1c i32) fun v33 =>
          lt (fun (v34 : Bool) =>
          lti (v18 + (-1)) fun v36 =>
          some (.inl (v34, v36))
          ) fun K35 =>
          (if v33 = 0 then
            K35 false
          else
            K35 true
          )
        )
      )
      ))
      ) fun F27 =>
      Option.bind (lp 41 (fun x => F27 x.1 x.2) (false, v15)) fun w28 =>
      lt (fun (v38 : Bool) =>
      (if v38 = true then
        Option.bind (f_J16_javaIncrement n5 f6) fun o41 =>
        K11 o41.1 o41.2.1
      else
        K11 n5 f6
      )
      ) fun K39 =>
      (if w28 = true then
        K39 w28
      else
        (if v2 = 0 then
          K39 w28
        else
          lti ((nI x0r1n) - v1) fun v45 =>
          lti (v45 - 1) fun v46 =>
          gd x0r1n v46 fun i47 =>
          lti (x0r1c i47) fun v48 =>
          lti (32 - v2) fun v49 =>
          lti (v48 <<< (v49 &&& 31)) fun v50 =>
          lt (fun (v51 : Bool) =>
          K39 v51
          ) fun K52 =>
          (if v50 = 0 then
            K52 false
          else
            K52 true
          )
        )
      )
    )
    ) fun K7 =>
    (if v2 = 0 then
      lti ((nI x0r1n) - v1) fun v81 =>
      Option.bind (f_J19_copyOf x0r1n x0r1c v81) fun o82 =>
      K7 o82.1 o82.2
    else
      gd x0r1n 0 fun i55 =>
      lti (x0r1c i55) fun v56 =>
      lti (((v56 : Int32).toUInt32 >>> ((v2 : Int32).toUInt32 &&& Int32.toUInt32 31)).toInt32) fun v57 =>
      lt (fun (n59 : Nat) (f60 : Nat → Int32) (v61 : Int32) =>
      lti ((nI x0r1n) - v1) fun v63 =>
      lti (v63 - 1) fun v64 =>
      lti (v64 + 1) fun v65 =>
      Option.bind (f_J17_checkFromToIndex 0 v65 (nI x0r1n)) fun o66 =>
      lti (v64 + v61) fun v67 =>
      Option.bind (f_J17_checkFromToIndex v61 v67 (nI n59)) fun o68 =>
      Option.bind (f_J16_shiftRightImplWorker n59 f60 x0r1n x0r1c v61 v2 v64) fun o69 =>
      K7 n59 o69
      ) fun K62 =>
      (if v57 = 0 then
        lti ((nI x0r1n) - v1) fun v71 =>
        lti (v71 - 1) fun v72 =>
        gl 12 v72 fun n74 =>
        K62 n74 (fun _ => 0) 0
      else
        lti ((nI x0r1n) - v1) fun v75 =>
        gl 12 v75 fun n77 =>
        lti (0 + 1) fun v78 =>
        gd n77 0 fun i79 =>
        lt (va_up (fun _ => 0) i79 v57) fun f80 =>
        K62 n77 f80 v78
      )
    )
  else
    none
  )
theorem hd_J16_sri_A : Hd yJ16_shiftRightImpl 1 := by unfold Hd; decide +kernel
set_option maxHeartbeats 4000000 in
set_option maxRecDepth 100000 in
theorem m_J16_sri_A {l : Launch} {D : DD} (x0 : Nat) (x0r1 : Nat) (x0e2 : Int32) (x0e3 : Int32) (x0e4 : Int32) (x0e5 : Int32) (x0f0 : Int32) (x0r1n : Nat) (x0r1c : Nat → Int32) (x1 : Int32) (r : Int32 × Nat × (Nat → Int32)) (h : f_J16_sri_A x0f0 x0r1n x0r1c x1 = some r) : MT l D yJ16_shiftRightImpl cJ16_shiftRightImpl 9 (some (.object "java/math/BigInteger")) 3 62 3 30 [.ref x0, .int x1] (fun H => OA D 2 x0 [.int x0f0, .ref x0r1, .int x0e2, .int x0e3, .int x0e4, .int x0e5] H ∧ aI D x0r1 x0r1n x0r1c H ∧ x0r1n ≤ 1000000) (pR (fun H b H' => ∃ b_1 : Nat, ON D 2 b [.int r.1, .ref b_1, .int 0, .int 0, .int 0, .int 0] H' ∧ aI D b_1 r.2.1 r.2.2 H' ∧ r.2.1 ≤ 1000000 ∧ H.size ≤ b ∧ b ≠ b_1 ∧ Off (fun _ => False) H H')) := by
  refine MT.start (by decide +kernel) (Nat.le_of_ble_eq_true rfl) ?_
  intro p e s m below meth c ls hC hS hp hl
  obtain ⟨h_x0, h_x0r1, l_x0r1⟩ := hp
  obtain ⟨hx, hb, hr, hlk, hml, hown, hts, hnm⟩ := id hC
  have hl : lv_has ls 9 [(0, .ref x0), (1, .int x1)] := hl
  unfold f_J16_sri_A at h
  have hS0 := hS
  obtain ⟨A, eA⟩ : ∃ A : Array Value, A = [.ref x0, .int x1].toArray := ⟨_, rfl⟩
  rw [← eA] at hC hts ⊢
  obtain ⟨Q, eQ⟩ : ∃ Q : State → Prop, Q = MQ below (TQ D (pR (fun H b H' => ∃ b_1 : Nat, ON D 2 b [.int r.1, .ref b_1, .int 0, .int 0, .int 0, .int 0] H' ∧ aI D b_1 r.2.1 r.2.2 H' ∧ r.2.1 ≤ 1000000 ∧ H.size ≤ b ∧ b ≠ b_1 ∧ Off (fun _ => False) H H'))) A s 3 30 (fun q => dB D ≤ q) := ⟨_, rfl⟩
  have hF : Off (fun _ => False) s.heap s.heap := Off.rf
  show W p l e R_J16_sri_A s m A below meth c s.heap [] 0 0 _ _
  rw [← eQ]
  obtain ⟨H, eH⟩ : ∃ H : Heap, H = s.heap := ⟨_, rfl⟩
  obtain ⟨locs, eLc⟩ : ∃ L : List Loc, L = [] := ⟨_, rfl⟩
  have lt_h_x0 := h_x0.lt
  have lt_h_x0r1 := h_x0r1.lt
  rw [← eH, ← eLc]
  have hF : Off (fun _ => False) s.heap H := by rw [eH]; exact hF
  rw [← eH] at h_x0
  rw [← eH] at h_x0r1
  have hS : St D s H locs := by rw [eH, eLc]; exact hS
  refine lv_iload_n hx hb dJ16_shiftRightImpl_0 rfl (lv_at hl 1 rfl) ?_
  refine lv_iconst (v := 5) hx hb dJ16_shiftRightImpl_1 (by decide) ?_
  obtain ⟨v1, ev1, h⟩ := lti_step h
  refine r_iushr hx hb ev1 dJ16_shiftRightImpl_2 ?_
  refine lv_istore_n (lv' := [(2, .int v1), (0, .ref x0), (1, .int x1)]) hx hb dJ16_shiftRightImpl_3 rfl hl (by decide) rfl (fun ls hl => ?_)
  refine lv_iload_n hx hb dJ16_shiftRightImpl_4 rfl (lv_at hl 2 rfl) ?_
  refine lv_bipush (v := 31) hx hb dJ16_shiftRightImpl_5 (by decide) ?_
  obtain ⟨v2, ev2, h⟩ := lti_step h
  refine r_iand hx hb ev2 dJ16_shiftRightImpl_7 ?_
  refine lv_istore_n (lv' := [(3, .int v2), (2, .int v1), (0, .ref x0), (1, .int x1)]) hx hb dJ16_shiftRightImpl_8 rfl hl (by decide) rfl (fun ls hl => ?_)
  refine lv_aload_n hx hb dJ16_shiftRightImpl_9 rfl (lv_at hl 2 rfl) ?_
  refine r_get hx hb hts hown hS h_x0 rfl in_J16 1 (by decide) q436 rfl (v := .ref x0r1) rfl dJ16_shiftRightImpl_10 ?_
  refine r_alen hx hb hS h_x0r1 dJ16_shiftRightImpl_13 ?_
  refine lv_istore (lv' := [(4, .int (nI x0r1n)), (3, .int v2), (2, .int v1), (0, .ref x0), (1, .int x1)]) hx hb dJ16_shiftRightImpl_14 hl (by decide) rfl (fun ls hl => ?_)
  refine lv_null hx hb dJ16_shiftRightImpl_16 ?_
  refine lv_astoreN (lv' := [(5, .null), (4, .int (nI x0r1n)), (3, .int v2), (2, .int v1), (0, .ref x0), (1, .int x1)]) hx hb dJ16_shiftRightImpl_17 hl (by decide) rfl (fun ls hl => ?_)
  refine lv_iload_n hx hb dJ16_shiftRightImpl_19 rfl (lv_at hl 3 rfl) ?_
  refine lv_iload hx hb dJ16_shiftRightImpl_20 (lv_at hl 1 rfl) ?_
  refine lv_icmp_lt (tgt := 44) hx hb dJ16_shiftRightImpl_22 (by decide) (fun c3 => ?_) (fun c3 => ?_)
  · have h := it_pos h c3
    refine lv_iload_n hx hb dJ16_shiftRightImpl_44 rfl (lv_at hl 2 rfl) ?_
    obtain ⟨K7, eK7, h⟩ := lt_step h
    have HK7 : ∀ (n5 : Nat) (f6 : Nat → Int32) (h : K7 n5 f6 = some r) (ad4 : Nat) (ln5 : n5 ≤ 1000000) (hB_had4 : dB D ≤ ad4) (gad4 : s.heap.size ≤ ad4) (ne_h_x0_had4 : x0 ≠ ad4) (ne_h_x0r1_had4 : x0r1 ≠ ad4) (H : Heap) (locs : List Loc) (hS : St D s H locs) (hF : Off (fun _ => False) s.heap H) (h_x0 : OA D 2 x0 [.int x0f0, .ref x0r1, .int x0e2, .int x0e3, .int x0e4, .int x0e5] H) (h_x0r1 : aI D x0r1 x0r1n x0r1c H) (had4 : aI D ad4 n5 f6 H) (ls : Array Slot) (hl : lv_has ls 9 [(0, .ref x0), (2, .int v1), (3, .int v2), (4, .int (nI x0r1n)), (5, .ref ad4)]), W p l e R_J16_sri_A s m A below meth c H locs 1 12 Q (F0 m 167 ls []) := by
      intro n5 f6 h ad4 ln5 hB_had4 gad4 ne_h_x0_had4 ne_h_x0r1_had4 H locs hS hF h_x0 h_x0r1 had4 ls hl
      subst eK7
      refine lv_aload_n hx hb dJ16_shiftRightImpl_167 rfl (lv_at hl 0 rfl) ?_
      refine r_get hx hb hts hown hS h_x0 rfl in_J16 0 (by decide) q435 rfl (v := .int x0f0) rfl dJ16_shiftRightImpl_168 ?_
      obtain ⟨K11, eK11, h⟩ := lt_step h
      have HK11 : ∀ (n9 : Nat) (f10 : Nat → Int32) (h : K11 n9 f10 = some r) (ad8 : Nat) (ln9 : n9 ≤ 1000000) (H : Heap) (locs : List Loc) (hS : St D s H locs) (hF : Off (fun _ => False) s.heap H) (h_x0 : OA D 2 x0 [.int x0f0, .ref x0r1, .int x0e2, .int x0e3, .int x0e4, .int x0e5] H) (h_x0r1 : aI D x0r1 x0r1n x0r1c H) (had8 : aI D ad8 n9 f10 H) (ls : Array Slot) (hl : lv_has ls 9 [(0, .ref x0), (5, .ref ad8)]), W p l e R_J16_sri_A s m A below meth c H locs 2 24 Q (F0 m 272 ls []) := by
        intro n9 f10 h ad8 ln9 H locs hS hF h_x0 h_x0r1 had8 ls hl
        subst eK11
        refine r_new (k := 2) hx hb hts hown hS rfl in_J16 tyJ16 tyJ16_ok q426 q427 q57 (fs := [.int 0, .null, .int 0, .int 0, .int 0, .int 0]) rfl (by decide) (Nat.le_of_ble_eq_true rfl) (Nat.le_of_ble_eq_true rfl) dJ16_shiftRightImpl_272 (fun ad12 H eq_ad12 hS hE had12 z_ad12 hB_had12 => ?_)
        have gad12 : s.heap.size ≤ ad12 := by have := hF.1; omega
        have ne_h_x0_had12 : x0 ≠ ad12 := by have := h_x0.lt; omega
        have h_x0 := h_x0.ext hE
        have ne_h_x0r1_had12 : x0r1 ≠ ad12 := by have := h_x0r1.lt; omega
        have h_x0r1 := h_x0r1.ext hE
        have ne_had8_had12 : ad8 ≠ ad12 := by have := had8.lt; omega
        have had8 := had8.ext hE
        have hF := hF.trans (hE.mono (fun _ _ z => z.elim))
        refine lv_dup hx hb dJ16_shiftRightImpl_275 rfl ?_
        refine lv_aload hx hb dJ16_shiftRightImpl_276 (lv_at hl 1 rfl) ?_
        refine lv_aload_n hx hb dJ16_shiftRightImpl_278 rfl (lv_at hl 0 rfl) ?_
        refine r_get hx hb hts hown hS h_x0 rfl in_J16 0 (by decide) q435 rfl (v := .int x0f0) rfl dJ16_shiftRightImpl_279 ?_
        obtain ⟨o13, eo13, h⟩ := bind_step h
        refine r_cv (r_runI (rest := [.ref ad12]) (As := [.ref ad8, .int x0f0]) hC 2 (m_J16_init_2 ad12 ad8  n9 f10 x0f0 o13 eo13) q473 q474 q57 q475 rfl hd_J16_init_2 rfl ⟨Nat.le_of_ble_eq_true rfl, Nat.le_of_ble_eq_true rfl⟩ hS ⟨had12, hB_had12, had8, ln9, (Ne.symm ne_had8_had12)⟩ hl.1 rfl (Nat.le_of_ble_eq_true rfl) dJ16_shiftRightImpl_282 ⟨Nat.le_of_ble_eq_true rfl, Nat.le_of_ble_eq_true rfl⟩) hS (fun H locs hp hS hz => ?_)
        obtain ⟨had12, hO⟩ := hp
        have h_x0 := h_x0.off hO ne_h_x0_had12
        have h_x0r1 := h_x0r1.off hO ne_h_x0r1_had12
        have had8 := had8.off hO ne_had8_had12
        have hF := hF.fresh hO (fun a ha z => absurd (z ▸ ha) (Nat.not_lt.mpr gad12))
        obtain rfl := Option.some.inj h
        rw [eQ]
        exact r_aret hx hb hr (Or.inl ⟨_, rfl⟩) hlk hS (Nat.le_of_ble_eq_true rfl) (Nat.le_of_ble_eq_true rfl) dJ16_shiftRightImpl_285 ⟨_, rfl, ad8, had12, had8, ln9, gad12, (Ne.symm ne_had8_had12), hF⟩
      clear eK11
      refine lv_if_ge (tgt := 272) hx hb dJ16_shiftRightImpl_171 (by decide) (fun c14 => ?_) (fun c14 => ?_)
      · have h := it_pos h c14
        refine W.widen (k := 2) (n := 24) (Nat.le_of_ble_eq_true rfl) (Nat.le_of_ble_eq_true rfl) ?_
        exact HK11 n5 f6 h ad4 ln5 H locs hS hF h_x0 h_x0r1 had4 ls (lv_sub hl [0, 4] rfl)
      · have h := it_neg h c14
        refine lv_iconst (v := 0) hx hb dJ16_shiftRightImpl_174 (by decide) ?_
        refine lv_istore (lv' := [(6, .int 0), (0, .ref x0), (2, .int v1), (3, .int v2), (4, .int (nI x0r1n)), (5, .ref ad4)]) hx hb dJ16_shiftRightImpl_175 hl (by decide) rfl (fun ls hl => ?_)
        refine lv_iload hx hb dJ16_shiftRightImpl_177 (lv_at hl 4 rfl) ?_
        refine lv_iconst (v := 1) hx hb dJ16_shiftRightImpl_179 (by decide) ?_
        obtain ⟨v15, ev15, h⟩ := lti_step h
        refine r_isub hx hb ev15 dJ16_shiftRightImpl_180 ?_
        refine lv_istore (lv' := [(7, .int v15), (6, .int 0), (0, .ref x0), (2, .int v1), (3, .int v2), (4, .int (nI x0r1n)), (5, .ref ad4)]) hx hb dJ16_shiftRightImpl_181 hl (by decide) rfl (fun ls hl => ?_)
        refine lv_iload hx hb dJ16_shiftRightImpl_183 (lv_at hl 5 rfl) ?_
        refine lv_iload_n hx hb dJ16_shiftRightImpl_185 rfl (lv_at hl 3 rfl) ?_
        obtain ⟨v16, ev16, h⟩ := lti_step h
        refine r_isub hx hb ev16 dJ16_shiftRightImpl_186 ?_
        refine lv_istore (lv' := [(8, .int v16), (7, .int v15), (6, .int 0), (0, .ref x0), (2, .int v1), (3, .int v2), (4, .int (nI x0r1n)), (5, .ref ad4)]) hx hb dJ16_shiftRightImpl_187 hl (by decide) rfl (fun ls hl => ?_)
        obtain ⟨F27, eF27, h⟩ := lt_step h
        obtain ⟨w28, ew28, h⟩ := bind_step h
        have HL : ∀ (n : Nat) (v17 : Bool) (v18 : Int32) (w28 : Bool) (hk0 : lp n (fun x => F27 x.1 x.2) (v17, v18) = some w28)  (H : Heap) (locs : List Loc) (hS : St D s H locs) (hF : Off (fun _ => False) s.heap H) (h_x0 : OA D 2 x0 [.int x0f0, .ref x0r1, .int x0e2, .int x0e3, .int x0e4, .int x0e5] H) (h_x0r1 : aI D x0r1 x0r1n x0r1c H) (had4 : aI D ad4 n5 f6 H) (ls : Array Slot) (hl : lv_has ls 9 [(0, .ref x0), (2, .int v1), (3, .int v2), (4, .int (nI x0r1n)), (5, .ref ad4), (6, .int (bI v17)), (7, .int v18), (8, .int v16)]) (K224 : ∀ (H : Heap) (locs : List Loc) (hS : St D s H locs) (hF : Off (fun _ => False) s.heap H) (h_x0 : OA D 2 x0 [.int x0f0, .ref x0r1, .int x0e2, .int x0e3, .int x0e4, .int x0e5] H) (h_x0r1 : aI D x0r1 x0r1n x0r1c H) (had4 : aI D ad4 n5 f6 H) (ls : Array Slot) (hl : lv_has ls 9 [(0, .ref x0), (2, .int v1), (3, .int v2), (4, .int (nI x0r1n)), (5, .ref ad4), (6, .int (bI w28))]), W p l e R_J16_sri_A s m A below meth c H locs 1 12 Q (F0 m 224 ls [])), W p l e R_J16_sri_A s m A below meth c H locs 1 12 Q (F0 m 189 ls []) := by
          intro n
          induction n with
          | zero => intro v17 v18 w28 hk0  H locs hS hF h_x0 h_x0r1 had4 ls hl K224; exact lp_zero hk0
          | succ n ih =>
            intro v17 v18 w28 hk0  H locs hS hF h_x0 h_x0r1 had4 ls hl K224
            obtain ⟨z29, hz, hk⟩ := lp_step hk0
            have h := (congrFun (congrFun (eF27) v17) v18).symm.trans hz
            refine lv_iload hx hb dJ16_shiftRightImpl_189 (lv_at hl 6 rfl) ?_
            refine lv_iload hx hb dJ16_shiftRightImpl_191 (lv_at hl 7 rfl) ?_
            refine lv_icmp_lt (tgt := 224) hx hb dJ16_shiftRightImpl_193 (by decide) (fun c30 => ?_) (fun c30 => ?_)
            · have h := it_pos h c30
              obtain rfl := Option.some.inj h
              obtain rfl := id hk
              exact K224 H locs hS hF h_x0 h_x0r1 had4 ls (lv_sub hl [0, 1, 2, 3, 4, 5] rfl)
            · have h := it_neg h c30
              refine lv_iload hx hb dJ16_shiftRightImpl_196 (lv_at hl 5 rfl) ?_
              refine r_ifz_ne (tgt := 224) hx hb dJ16_shiftRightImpl_198 (by decide) (fun c31 => ?_) (fun c31 => ?_)
              · have h := it_pos h (by rw [c31])
                obtain rfl := Option.some.inj h
                obtain rfl := id hk
                exact K224 H locs hS hF h_x0 h_x0r1 had4 ls (lv_sub hl [0, 1, 2, 3, 4, 5] rfl)
              · have h := it_neg h (by rw [c31]; decide)
                refine lv_aload_n hx hb dJ16_shiftRightImpl_201 rfl (lv_at hl 0 rfl) ?_
                refine r_get hx hb hts hown hS h_x0 rfl in_J16 1 (by decide) q436 rfl (v := .ref x0r1) rfl dJ16_shiftRightImpl_202 ?_
                refine lv_iload hx hb dJ16_shiftRightImpl_205 (lv_at hl 6 rfl) ?_
                obtain ⟨i32, xi32, h⟩ := gd_step (nl0 l_x0r1) h
                refine r_iald hx hb hS h_x0r1 i32 xi32 dJ16_shiftRightImpl_207 ?_
                obtain ⟨v33, ev33, h⟩ := lti_step h
                refine r_nmI ev33 ?_
                obtain ⟨K35, eK35, h⟩ := lt_step h
                have HK35 : ∀ (v34 : Bool) (h : K35 v34 = some z29) (H : Heap) (locs : List Loc) (hS : St D s H locs) (hF : Off (fun _ => False) s.heap H) (h_x0 : OA D 2 x0 [.int x0f0, .ref x0r1, .int x0e2, .int x0e3, .int x0e4, .int x0e5] H) (h_x0r1 : aI D x0r1 x0r1n x0r1c H) (had4 : aI D ad4 n5 f6 H) (ls : Array Slot) (hl : lv_has ls 9 [(0, .ref x0), (2, .int v1), (3, .int v2), (4, .int (nI x0r1n)), (5, .ref ad4), (7, .int v18), (8, .int v16)]), W p l e R_J16_sri_A s m A below meth c H locs 1 12 Q (F0 m 216 ls [.int (bI v34)]) := by
                  intro v34 h H locs hS hF h_x0 h_x0r1 had4 ls hl
                  subst eK35
                  refine lv_istore (lv' := [(6, .int (bI v34)), (0, .ref x0), (2, .int v1), (3, .int v2), (4, .int (nI x0r1n)), (5, .ref ad4), (7, .int v18), (8, .int v16)]) hx hb dJ16_shiftRightImpl_216 hl (by decide) rfl (fun ls hl => ?_)
                  obtain ⟨v36, ev36, h⟩ := lti_step h
                  refine lv_iinc (v := v36) (lv' := [(7, .int v36), (6, .int (bI v34)), (0, .ref x0), (2, .int v1), (3, .int v2), (4, .int (nI x0r1n)), (5, .ref ad4), (8, .int v16)]) hx hb dJ16_shiftRightImpl_218 hl (k := 6) rfl (by rw [ev36]; rfl) (by decide) rfl (fun ls hl => ?_)
                  refine lv_goto (tgt := 189) hx hb dJ16_shiftRightImpl_221 (by decide) ?_
                  obtain rfl := Option.some.inj h
                  exact ih v34 v36 w28 hk  H locs hS hF h_x0 h_x0r1 had4 ls (lv_sub hl [2, 3, 4, 5, 6, 1, 0, 7] rfl) K224
                clear eK35
                refine lv_if_eq (tgt := 215) hx hb dJ16_shiftRightImpl_208 (by decide) (fun c37 => ?_) (fun c37 => ?_)
                · have h := it_pos h c37
                  refine lv_iconst (v := 0) hx hb dJ16_shiftRightImpl_215 (by decide) ?_
                  exact HK35 false h H locs hS hF h_x0 h_x0r1 had4 ls (lv_sub hl [0, 1, 2, 3, 4, 6, 7] rfl)
                · have h := it_neg h c37
                  refine lv_iconst (v := 1) hx hb dJ16_shiftRightImpl_211 (by decide) ?_
                  refine lv_goto (tgt := 216) hx hb dJ16_shiftRightImpl_212 (by decide) ?_
                  exact HK35 true h H locs hS hF h_x0 h_x0r1 had4 ls (lv_sub hl [0, 1, 2, 3, 4, 6, 7] rfl)
        clear eF27
        refine HL 41 false v15 w28 ew28  H locs hS hF h_x0 h_x0r1 had4 ls (lv_sub hl [3, 4, 5, 6, 7, 2, 1, 0] rfl) (fun  H locs hS hF h_x0 h_x0r1 had4 ls hl => ?_)
        refine lv_iload hx hb dJ16_shiftRightImpl_224 (lv_at hl 5 rfl) ?_
        obtain ⟨K39, eK39, h⟩ := lt_step h
        have HK39 : ∀ (v38 : Bool) (h : K39 v38 = some r) (H : Heap) (locs : List Loc) (hS : St D s H locs) (hF : Off (fun _ => False) s.heap H) (h_x0 : OA D 2 x0 [.int x0f0, .ref x0r1, .int x0e2, .int x0e3, .int x0e4, .int x0e5] H) (h_x0r1 : aI D x0r1 x0r1n x0r1c H) (had4 : aI D ad4 n5 f6 H) (ls : Array Slot) (hl : lv_has ls 9 [(0, .ref x0), (5, .ref ad4), (6, .int (bI v38))]), W p l e R_J16_sri_A s m A below meth c H locs 1 12 Q (F0 m 259 ls []) := by
          intro v38 h H locs hS hF h_x0 h_x0r1 had4 ls hl
          subst eK39
          refine lv_iload hx hb dJ16_shiftRightImpl_259 (lv_at hl 2 rfl) ?_
          refine r_ifz_eq (tgt := 272) hx hb dJ16_shiftRightImpl_261 (by decide) (fun c40 => ?_) (fun c40 => ?_)
          · have h := it_neg h (by rw [c40]; decide)
            refine W.widen (k := 2) (n := 24) (Nat.le_of_ble_eq_true rfl) (Nat.le_of_ble_eq_true rfl) ?_
            exact HK11 n5 f6 h ad4 ln5 H locs hS hF h_x0 h_x0r1 had4 ls (lv_sub hl [0, 1] rfl)
          · have h := it_pos h (by rw [c40])
            refine lv_aload_n hx hb dJ16_shiftRightImpl_264 rfl (lv_at hl 0 rfl) ?_
            refine lv_aload hx hb dJ16_shiftRightImpl_265 (lv_at hl 1 rfl) ?_
            obtain ⟨o41, eo41, h⟩ := bind_step h
            refine r_cr (r_runV (rest := []) (As := [.ref ad4]) hC 1 (m_J16_javaIncrement x0 ad4  n5 f6 o41 eo41) q503 q504 q505 q57 q506 (OA.recv hS h_x0 (C := RJ16) rfl) hd_J16_javaIncrement rfl ⟨Nat.le_of_ble_eq_true rfl, Nat.le_of_ble_eq_true rfl⟩ hS ⟨had4, ln5, hB_had4⟩ hl.1 rfl (Nat.le_of_ble_eq_true rfl) dJ16_shiftRightImpl_267 ⟨Nat.le_of_ble_eq_true rfl, Nat.le_of_ble_eq_true rfl⟩) hS (fun ad42 H locs hp hS hz => ?_)
            obtain ⟨had42, lo41_1, had4, hO⟩ := hp
            have h_x0 := h_x0.off hO ne_h_x0_had4
            have h_x0r1 := h_x0r1.off hO ne_h_x0r1_had4
            have hF := hF.fresh hO (fun a ha z => absurd (z ▸ ha) (Nat.not_lt.mpr gad4))
            refine lv_astore (lv' := [(5, .ref ad42), (0, .ref x0), (6, .int (bI v38))]) hx hb dJ16_shiftRightImpl_270 hl (by decide) rfl (fun ls hl => ?_)
            exact HK11 o41.1 o41.2.1 h ad42 lo41_1 H locs hS hF h_x0 h_x0r1 had42 ls (lv_sub hl [1, 0] rfl)
        clear eK39
        refine r_ifz_ne (tgt := 259) hx hb dJ16_shiftRightImpl_226 (by decide) (fun c43 => ?_) (fun c43 => ?_)
        · have h := it_pos h (by rw [c43])
          exact HK39 w28 h H locs hS hF h_x0 h_x0r1 had4 ls (lv_sub hl [0, 4, 5] rfl)
        · have h := it_neg h (by rw [c43]; decide)
          refine lv_iload_n hx hb dJ16_shiftRightImpl_229 rfl (lv_at hl 2 rfl) ?_
          refine lv_if_eq (tgt := 259) hx hb dJ16_shiftRightImpl_230 (by decide) (fun c44 => ?_) (fun c44 => ?_)
          · have h := it_pos h c44
            exact HK39 w28 h H locs hS hF h_x0 h_x0r1 had4 ls (lv_sub hl [0, 4, 5] rfl)
          · have h := it_neg h c44
            refine lv_aload_n hx hb dJ16_shiftRightImpl_233 rfl (lv_at hl 0 rfl) ?_
            refine r_get hx hb hts hown hS h_x0 rfl in_J16 1 (by decide) q436 rfl (v := .ref x0r1) rfl dJ16_shiftRightImpl_234 ?_
            refine lv_iload hx hb dJ16_shiftRightImpl_237 (lv_at hl 3 rfl) ?_
            refine lv_iload_n hx hb dJ16_shiftRightImpl_239 rfl (lv_at hl 1 rfl) ?_
            obtain ⟨v45, ev45, h⟩ := lti_step h
            refine r_isub hx hb ev45 dJ16_shiftRightImpl_240 ?_
            refine lv_iconst (v := 1) hx hb dJ16_shiftRightImpl_241 (by decide) ?_
            obtain ⟨v46, ev46, h⟩ := lti_step h
            refine r_isub hx hb ev46 dJ16_shiftRightImpl_242 ?_
            obtain ⟨i47, xi47, h⟩ := gd_step (nl0 l_x0r1) h
            refine r_iald hx hb hS h_x0r1 i47 xi47 dJ16_shiftRightImpl_243 ?_
            obtain ⟨v48, ev48, h⟩ := lti_step h
            refine r_nmI ev48 ?_
            refine lv_bipush (v := 32) hx hb dJ16_shiftRightImpl_244 (by decide) ?_
            refine lv_iload_n hx hb dJ16_shiftRightImpl_246 rfl (lv_at hl 2 rfl) ?_
            obtain ⟨v49, ev49, h⟩ := lti_step h
            refine r_isub hx hb ev49 dJ16_shiftRightImpl_247 ?_
            obtain ⟨v50, ev50, h⟩ := lti_step h
            refine r_ishl hx hb ev50 dJ16_shiftRightImpl_248 ?_
            obtain ⟨K52, eK52, h⟩ := lt_step h
            have HK52 : ∀ (v51 : Bool) (h : K52 v51 = some r) (H : Heap) (locs : List Loc) (hS : St D s H locs) (hF : Off (fun _ => False) s.heap H) (h_x0 : OA D 2 x0 [.int x0f0, .ref x0r1, .int x0e2, .int x0e3, .int x0e4, .int x0e5] H) (h_x0r1 : aI D x0r1 x0r1n x0r1c H) (had4 : aI D ad4 n5 f6 H) (ls : Array Slot) (hl : lv_has ls 9 [(0, .ref x0), (5, .ref ad4)]), W p l e R_J16_sri_A s m A below meth c H locs 1 12 Q (F0 m 257 ls [.int (bI v51)]) := by
              intro v51 h H locs hS hF h_x0 h_x0r1 had4 ls hl
              subst eK52
              refine lv_istore (lv' := [(6, .int (bI v51)), (0, .ref x0), (5, .ref ad4)]) hx hb dJ16_shiftRightImpl_257 hl (by decide) rfl (fun ls hl => ?_)
              exact HK39 v51 h H locs hS hF h_x0 h_x0r1 had4 ls (lv_sub hl [1, 2, 0] rfl)
            clear eK52
            refine lv_if_eq (tgt := 256) hx hb dJ16_shiftRightImpl_249 (by decide) (fun c53 => ?_) (fun c53 => ?_)
            · have h := it_pos h c53
              refine lv_iconst (v := 0) hx hb dJ16_shiftRightImpl_256 (by decide) ?_
              exact HK52 false h H locs hS hF h_x0 h_x0r1 had4 ls (lv_sub hl [0, 4] rfl)
            · have h := it_neg h c53
              refine lv_iconst (v := 1) hx hb dJ16_shiftRightImpl_252 (by decide) ?_
              refine lv_goto (tgt := 257) hx hb dJ16_shiftRightImpl_253 (by decide) ?_
              exact HK52 true h H locs hS hF h_x0 h_x0r1 had4 ls (lv_sub hl [0, 4] rfl)
    clear eK7
    refine lv_if_ne (tgt := 68) hx hb dJ16_shiftRightImpl_45 (by decide) (fun c54 => ?_) (fun c54 => ?_)
    · have h := it_neg h c54
      refine lv_iconst (v := 0) hx hb dJ16_shiftRightImpl_68 (by decide) ?_
      refine lv_istore (lv' := [(6, .int 0), (5, .null), (4, .int (nI x0r1n)), (3, .int v2), (2, .int v1), (0, .ref x0), (1, .int x1)]) hx hb dJ16_shiftRightImpl_69 hl (by decide) rfl (fun ls hl => ?_)
      refine lv_aload_n hx hb dJ16_shiftRightImpl_71 rfl (lv_at hl 5 rfl) ?_
      refine r_get hx hb hts hown hS h_x0 rfl in_J16 1 (by decide) q436 rfl (v := .ref x0r1) rfl dJ16_shiftRightImpl_72 ?_
      refine lv_iconst (v := 0) hx hb dJ16_shiftRightImpl_75 (by decide) ?_
      obtain ⟨i55, xi55, h⟩ := gd_step (nl0 l_x0r1) h
      refine r_iald hx hb hS h_x0r1 i55 xi55 dJ16_shiftRightImpl_76 ?_
      obtain ⟨v56, ev56, h⟩ := lti_step h
      refine r_nmI ev56 ?_
      refine lv_iload_n hx hb dJ16_shiftRightImpl_77 rfl (lv_at hl 3 rfl) ?_
      obtain ⟨v57, ev57, h⟩ := lti_step h
      refine r_iushr hx hb ev57 dJ16_shiftRightImpl_78 ?_
      refine lv_istore (lv' := [(7, .int v57), (6, .int 0), (5, .null), (4, .int (nI x0r1n)), (3, .int v2), (2, .int v1), (0, .ref x0), (1, .int x1)]) hx hb dJ16_shiftRightImpl_79 hl (by decide) rfl (fun ls hl => ?_)
      refine lv_iload hx hb dJ16_shiftRightImpl_81 (lv_at hl 0 rfl) ?_
      obtain ⟨K62, eK62, h⟩ := lt_step h
      have HK62 : ∀ (n59 : Nat) (f60 : Nat → Int32) (v61 : Int32) (h : K62 n59 f60 v61 = some r) (ad58 : Nat) (ln59 : n59 ≤ 1000000) (hB_had58 : dB D ≤ ad58) (gad58 : s.heap.size ≤ ad58) (ne_h_x0_had58 : x0 ≠ ad58) (ne_h_x0r1_had58 : x0r1 ≠ ad58) (H : Heap) (locs : List Loc) (hS : St D s H locs) (hF : Off (fun _ => False) s.heap H) (h_x0 : OA D 2 x0 [.int x0f0, .ref x0r1, .int x0e2, .int x0e3, .int x0e4, .int x0e5] H) (h_x0r1 : aI D x0r1 x0r1n x0r1c H) (had58 : aI D ad58 n59 f60 H) (ls : Array Slot) (hl : lv_has ls 9 [(0, .ref x0), (2, .int v1), (3, .int v2), (4, .int (nI x0r1n)), (5, .ref ad58), (6, .int v61)]), W p l e R_J16_sri_A s m A below meth c H locs 1 12 Q (F0 m 117 ls []) := by
        intro n59 f60 v61 h ad58 ln59 hB_had58 gad58 ne_h_x0_had58 ne_h_x0r1_had58 H locs hS hF h_x0 h_x0r1 had58 ls hl
        subst eK62
        refine lv_iload hx hb dJ16_shiftRightImpl_117 (lv_at hl 3 rfl) ?_
        refine lv_iload_n hx hb dJ16_shiftRightImpl_119 rfl (lv_at hl 1 rfl) ?_
        obtain ⟨v63, ev63, h⟩ := lti_step h
        refine r_isub hx hb ev63 dJ16_shiftRightImpl_120 ?_
        refine lv_iconst (v := 1) hx hb dJ16_shiftRightImpl_121 (by decide) ?_
        obtain ⟨v64, ev64, h⟩ := lti_step h
        refine r_isub hx hb ev64 dJ16_shiftRightImpl_122 ?_
        refine lv_istore (lv' := [(8, .int v64), (0, .ref x0), (2, .int v1), (3, .int v2), (4, .int (nI x0r1n)), (5, .ref ad58), (6, .int v61)]) hx hb dJ16_shiftRightImpl_123 hl (by decide) rfl (fun ls hl => ?_)
        refine lv_iconst (v := 0) hx hb dJ16_shiftRightImpl_125 (by decide) ?_
        refine lv_iload hx hb dJ16_shiftRightImpl_126 (lv_at hl 0 rfl) ?_
        refine lv_iconst (v := 1) hx hb dJ16_shiftRightImpl_128 (by decide) ?_
        obtain ⟨v65, ev65, h⟩ := lti_step h
        refine r_iadd hx hb ev65 dJ16_shiftRightImpl_129 ?_
        refine lv_aload_n hx hb dJ16_shiftRightImpl_130 rfl (lv_at hl 1 rfl) ?_
        refine r_get hx hb hts hown hS h_x0 rfl in_J16 1 (by decide) q436 rfl (v := .ref x0r1) rfl dJ16_shiftRightImpl_131 ?_
        refine r_alen hx hb hS h_x0r1 dJ16_shiftRightImpl_134 ?_
        obtain ⟨o66, eo66, h⟩ := bind_step h
        refine r_cp (r_runS (rest := []) (As := [.int 0, .int v65, .int (nI x0r1n)]) hC 3 (m_J17_checkFromToIndex   0 v65 (nI x0r1n) o66 eo66) q464 q465 q59 q466 hd_J17_checkFromToIndex rfl ⟨Nat.le_of_ble_eq_true rfl, Nat.le_of_ble_eq_true rfl⟩ hS trivial hl.1 rfl (Nat.le_of_ble_eq_true rfl) dJ16_shiftRightImpl_135 ⟨Nat.le_of_ble_eq_true rfl, Nat.le_of_ble_eq_true rfl⟩) ?_
        refine lv_pop hx hb dJ16_shiftRightImpl_138 rfl ?_
        refine lv_iload hx hb dJ16_shiftRightImpl_139 (lv_at hl 6 rfl) ?_
        refine lv_iload hx hb dJ16_shiftRightImpl_141 (lv_at hl 0 rfl) ?_
        refine lv_iload hx hb dJ16_shiftRightImpl_143 (lv_at hl 6 rfl) ?_
        obtain ⟨v67, ev67, h⟩ := lti_step h
        refine r_iadd hx hb ev67 dJ16_shiftRightImpl_145 ?_
        refine lv_aload hx hb dJ16_shiftRightImpl_146 (lv_at hl 5 rfl) ?_
        refine r_alen hx hb hS had58 dJ16_shiftRightImpl_148 ?_
        obtain ⟨o68, eo68, h⟩ := bind_step h
        refine r_cp (r_runS (rest := []) (As := [.int v61, .int v67, .int (nI n59)]) hC 3 (m_J17_checkFromToIndex   v61 v67 (nI n59) o68 eo68) q464 q465 q59 q466 hd_J17_checkFromToIndex rfl ⟨Nat.le_of_ble_eq_true rfl, Nat.le_of_ble_eq_true rfl⟩ hS trivial hl.1 rfl (Nat.le_of_ble_eq_true rfl) dJ16_shiftRightImpl_149 ⟨Nat.le_of_ble_eq_true rfl, Nat.le_of_ble_eq_true rfl⟩) ?_
        refine lv_pop hx hb dJ16_shiftRightImpl_152 rfl ?_
        refine lv_aload hx hb dJ16_shiftRightImpl_153 (lv_at hl 5 rfl) ?_
        refine lv_aload_n hx hb dJ16_shiftRightImpl_155 rfl (lv_at hl 1 rfl) ?_
        refine r_get hx hb hts hown hS h_x0 rfl in_J16 1 (by decide) q436 rfl (v := .ref x0r1) rfl dJ16_shiftRightImpl_156 ?_
        refine lv_iload hx hb dJ16_shiftRightImpl_159 (lv_at hl 6 rfl) ?_
        refine lv_iload_n hx hb dJ16_shiftRightImpl_161 rfl (lv_at hl 3 rfl) ?_
        refine lv_iload hx hb dJ16_shiftRightImpl_162 (lv_at hl 0 rfl) ?_
        obtain ⟨o69, eo69, h⟩ := bind_step h
        refine r_cv (r_runS (rest := []) (As := [.ref ad58, .ref x0r1, .int v61, .int v2, .int v64]) hC 5 (m_J16_shiftRightImplWorker ad58 x0r1  n59 f60 x0r1n x0r1c v61 v2 v64 o69 eo69) q500 q501 q57 q502 hd_J16_shiftRightImplWorker rfl ⟨Nat.le_of_ble_eq_true rfl, Nat.le_of_ble_eq_true rfl⟩ hS ⟨had58, ln59, hB_had58, h_x0r1, l_x0r1, (Ne.symm ne_h_x0r1_had58)⟩ hl.1 rfl (Nat.le_of_ble_eq_true rfl) dJ16_shiftRightImpl_164 ⟨Nat.le_of_ble_eq_true rfl, Nat.le_of_ble_eq_true rfl⟩) hS (fun H locs hp hS hz => ?_)
        obtain ⟨had58, hO⟩ := hp
        have h_x0 := h_x0.off hO ne_h_x0_had58
        have h_x0r1 := h_x0r1.off hO ne_h_x0r1_had58
        have hF := hF.fresh hO (fun a ha z => absurd (z ▸ ha) (Nat.not_lt.mpr gad58))
        exact HK7 n59 o69 h ad58 ln59 hB_had58 gad58 ne_h_x0_had58 ne_h_x0r1_had58 H locs hS hF h_x0 h_x0r1 had58 ls (lv_sub hl [1, 2, 3, 4, 5] rfl)
      clear eK62
      refine lv_if_eq (tgt := 107) hx hb dJ16_shiftRightImpl_83 (by decide) (fun c70 => ?_) (fun c70 => ?_)
      · have h := it_pos h c70
        refine lv_iload hx hb dJ16_shiftRightImpl_107 (lv_at hl 3 rfl) ?_
        refine lv_iload_n hx hb dJ16_shiftRightImpl_109 rfl (lv_at hl 5 rfl) ?_
        obtain ⟨v71, ev71, h⟩ := lti_step h
        refine r_isub hx hb ev71 dJ16_shiftRightImpl_110 ?_
        refine lv_iconst (v := 1) hx hb dJ16_shiftRightImpl_111 (by decide) ?_
        obtain ⟨v72, ev72, h⟩ := lti_step h
        refine r_isub hx hb ev72 dJ16_shiftRightImpl_112 ?_
        obtain ⟨n74, xn74, h⟩ := gl_step (by decide) h
        refine r_newaB hx hb hts hS (ty := .int) rfl q453 12 n74 xn74 (by decide) (by decide) (Nat.le_of_ble_eq_true rfl) (Nat.le_of_ble_eq_true rfl) dJ16_shiftRightImpl_113 (fun ad73 H eq_ad73 hS hE had73 z_ad73 hB_had73 => ?_)
        have had73 : aI D ad73 n74 (fun _ => 0) H := had73
        have gad73 : s.heap.size ≤ ad73 := by have := hF.1; omega
        have ne_h_x0_had73 : x0 ≠ ad73 := by have := h_x0.lt; omega
        have h_x0 := h_x0.ext hE
        have ne_h_x0r1_had73 : x0r1 ≠ ad73 := by have := h_x0r1.lt; omega
        have h_x0r1 := h_x0r1.ext hE
        have hF := hF.trans (hE.mono (fun _ _ z => z.elim))
        refine lv_astore (lv' := [(5, .ref ad73), (7, .int v57), (6, .int 0), (4, .int (nI x0r1n)), (3, .int v2), (2, .int v1), (0, .ref x0), (1, .int x1)]) hx hb dJ16_shiftRightImpl_115 hl (by decide) rfl (fun ls hl => ?_)
        exact HK62 n74 (fun _ => 0) 0 h ad73 (le_of_gl xn74 (by decide)) hB_had73 gad73 ne_h_x0_had73 ne_h_x0r1_had73 H locs hS hF h_x0 h_x0r1 had73 ls (lv_sub hl [6, 5, 4, 3, 0, 2] rfl)
      · have h := it_neg h c70
        refine lv_iload hx hb dJ16_shiftRightImpl_86 (lv_at hl 3 rfl) ?_
        refine lv_iload_n hx hb dJ16_shiftRightImpl_88 rfl (lv_at hl 5 rfl) ?_
        obtain ⟨v75, ev75, h⟩ := lti_step h
        refine r_isub hx hb ev75 dJ16_shiftRightImpl_89 ?_
        obtain ⟨n77, xn77, h⟩ := gl_step (by decide) h
        refine r_newaB hx hb hts hS (ty := .int) rfl q453 12 n77 xn77 (by decide) (by decide) (Nat.le_of_ble_eq_true rfl) (Nat.le_of_ble_eq_true rfl) dJ16_shiftRightImpl_90 (fun ad76 H eq_ad76 hS hE had76 z_ad76 hB_had76 => ?_)
        have had76 : aI D ad76 n77 (fun _ => 0) H := had76
        have gad76 : s.heap.size ≤ ad76 := by have := hF.1; omega
        have ne_h_x0_had76 : x0 ≠ ad76 := by have := h_x0.lt; omega
        have h_x0 := h_x0.ext hE
        have ne_h_x0r1_had76 : x0r1 ≠ ad76 := by have := h_x0r1.lt; omega
        have h_x0r1 := h_x0r1.ext hE
        have hF := hF.trans (hE.mono (fun _ _ z => z.elim))
        refine lv_astore (lv' := [(5, .ref ad76), (7, .int v57), (6, .int 0), (4, .int (nI x0r1n)), (3, .int v2), (2, .int v1), (0, .ref x0), (1, .int x1)]) hx hb dJ16_shiftRightImpl_92 hl (by decide) rfl (fun ls hl => ?_)
        refine lv_aload hx hb dJ16_shiftRightImpl_94 (lv_at hl 0 rfl) ?_
        refine lv_iload hx hb dJ16_shiftRightImpl_96 (lv_at hl 2 rfl) ?_
        obtain ⟨v78, ev78, h⟩ := lti_step h
        refine lv_iinc (v := v78) (lv' := [(6, .int v78), (5, .ref ad76), (7, .int v57), (4, .int (nI x0r1n)), (3, .int v2), (2, .int v1), (0, .ref x0), (1, .int x1)]) hx hb dJ16_shiftRightImpl_98 hl (k := 2) rfl (by rw [ev78]; rfl) (by decide) rfl (fun ls hl => ?_)
        refine lv_iload hx hb dJ16_shiftRightImpl_101 (lv_at hl 2 rfl) ?_
        obtain ⟨i79, xi79, h⟩ := gd_step (nl0 (le_of_gl xn77 (by decide))) h
        obtain ⟨f80, ef80, h⟩ := lt_step h
        refine r_iast hx hb hS had76 hB_had76 i79 xi79 dJ16_shiftRightImpl_103 (fun H locs hS hO had76 => ?_)
        have had76 : aI D ad76 n77 f80 H := by rw [ef80]; exact had76
        have h_x0 := h_x0.off hO ne_h_x0_had76
        have h_x0r1 := h_x0r1.off hO ne_h_x0r1_had76
        have hF := hF.fresh hO (fun a ha z => absurd (z ▸ ha) (Nat.not_lt.mpr gad76))
        refine lv_goto (tgt := 117) hx hb dJ16_shiftRightImpl_104 (by decide) ?_
        exact HK62 n77 f80 v78 h ad76 (le_of_gl xn77 (by decide)) hB_had76 gad76 ne_h_x0_had76 ne_h_x0r1_had76 H locs hS hF h_x0 h_x0r1 had76 ls (lv_sub hl [6, 5, 4, 3, 1, 0] rfl)
    · have h := it_pos h c54
      refine lv_iload hx hb dJ16_shiftRightImpl_48 (lv_at hl 1 rfl) ?_
      refine lv_iload_n hx hb dJ16_shiftRightImpl_50 rfl (lv_at hl 3 rfl) ?_
      obtain ⟨v81, ev81, h⟩ := lti_step h
      refine r_isub hx hb ev81 dJ16_shiftRightImpl_51 ?_
      refine lv_istore (lv' := [(6, .int v81), (5, .null), (4, .int (nI x0r1n)), (3, .int v2), (2, .int v1), (0, .ref x0), (1, .int x1)]) hx hb dJ16_shiftRightImpl_52 hl (by decide) rfl (fun ls hl => ?_)
      refine lv_aload_n hx hb dJ16_shiftRightImpl_54 rfl (lv_at hl 5 rfl) ?_
      refine r_get hx hb hts hown hS h_x0 rfl in_J16 1 (by decide) q436 rfl (v := .ref x0r1) rfl dJ16_shiftRightImpl_55 ?_
      refine lv_iload hx hb dJ16_shiftRightImpl_58 (lv_at hl 0 rfl) ?_
      obtain ⟨o82, eo82, h⟩ := bind_step h
      refine r_cr (r_runS (rest := []) (As := [.ref x0r1, .int v81]) hC 2 (m_J19_copyOf x0r1  x0r1n x0r1c v81 o82 eo82) q488 q489 q61 q490 hd_J19_copyOf rfl ⟨Nat.le_of_ble_eq_true rfl, Nat.le_of_ble_eq_true rfl⟩ hS ⟨h_x0r1, l_x0r1⟩ hl.1 rfl (Nat.le_of_ble_eq_true rfl) dJ16_shiftRightImpl_60 ⟨Nat.le_of_ble_eq_true rfl, Nat.le_of_ble_eq_true rfl⟩) hS (fun ad83 H locs hp hS hz => ?_)
      obtain ⟨had83, lo82_1, frad83, hO⟩ := hp
      have ne_h_x0_had83 : x0 ≠ ad83 := Nat.ne_of_lt (Nat.lt_of_lt_of_le h_x0.lt frad83)
      have ne_h_x0r1_had83 : x0r1 ≠ ad83 := Nat.ne_of_lt (Nat.lt_of_lt_of_le h_x0r1.lt frad83)
      have gad83 : s.heap.size ≤ ad83 := Nat.le_trans hF.1 frad83
      have hB_had83 : dB D ≤ ad83 := by have := hS0.1.2.2.1; omega
      have h_x0 := h_x0.ext hO
      have h_x0r1 := h_x0r1.ext hO
      have hF := hF.trans (hO.mono (fun _ _ z => z.elim))
      refine lv_astore (lv' := [(5, .ref ad83), (6, .int v81), (4, .int (nI x0r1n)), (3, .int v2), (2, .int v1), (0, .ref x0), (1, .int x1)]) hx hb dJ16_shiftRightImpl_63 hl (by decide) rfl (fun ls hl => ?_)
      refine lv_goto (tgt := 167) hx hb dJ16_shiftRightImpl_65 (by decide) ?_
      exact HK7 o82.1 o82.2 h ad83 lo82_1 hB_had83 gad83 ne_h_x0_had83 ne_h_x0r1_had83 H locs hS hF h_x0 h_x0r1 had83 ls (lv_sub hl [5, 4, 3, 2, 0] rfl)
  · have h := it_neg h c3
    cases h

abbrev R_J16_sri_B : Room := { frames := 0, cells := 0, slots := 0, locals := 0 }
noncomputable def f_J16_sri_B (x0f0 : Int32) (x0r1n : Nat) (x0r1c : Nat → Int32) (x1 : Int32) : Option ((Nat → Int32)) :=
  lti (((x1 : Int32).toUInt32 >>> ((5 : Int32).toUInt32 &&& Int32.toUInt32 31)).toInt32) fun v1 =>
  lti (x1 &&& 31) fun v2 =>
  (if v1 < (nI x0r1n) then
    none
  else
    (if x0f0 < 0 then
      some (fun _ => 1)
    else
      none
    )
  )
theorem hd_J16_sri_B : Hd yJ16_shiftRightImpl 1 := by unfold Hd; decide +kernel
set_option maxHeartbeats 4000000 in
set_option maxRecDepth 100000 in
theorem m_J16_sri_B {l : Launch} {D : DD} (x0 : Nat) (x0r1 : Nat) (x0e2 : Int32) (x0e3 : Int32) (x0e4 : Int32) (x0e5 : Int32) (x0f0 : Int32) (x0r1n : Nat) (x0r1c : Nat → Int32) (x1 : Int32) (r : (Nat → Int32)) (h : f_J16_sri_B x0f0 x0r1n x0r1c x1 = some r) : MT l D yJ16_shiftRightImpl cJ16_shiftRightImpl 9 (some (.object "java/math/BigInteger")) 0 0 0 0 [.ref x0, .int x1] (fun H => OA D 2 x0 [.int x0f0, .ref x0r1, .int x0e2, .int x0e3, .int x0e4, .int x0e5] H ∧ aI D x0r1 x0r1n x0r1c H ∧ x0r1n ≤ 1000000) (pR (fun H b H' => ∃ b_1 : Nat, ∃ b_2 b_3 b_4 : Int32, OA D 2 b [.int (-1), .ref b_1, .int b_2, .int b_3, .int b_4, .int 2] H' ∧ aI D b_1 1 r H' ∧ Off (fun _ => False) H H')) := by
  refine MT.start (by decide +kernel) (Nat.le_of_ble_eq_true rfl) ?_
  intro p e s m below meth c ls hC hS hp hl
  obtain ⟨h_x0, h_x0r1, l_x0r1⟩ := hp
  obtain ⟨hx, hb, hr, hlk, hml, hown, hts, hnm⟩ := id hC
  have hl : lv_has ls 9 [(0, .ref x0), (1, .int x1)] := hl
  unfold f_J16_sri_B at h
  have hS0 := hS
  obtain ⟨A, eA⟩ : ∃ A : Array Value, A = [.ref x0, .int x1].toArray := ⟨_, rfl⟩
  rw [← eA] at hC hts ⊢
  obtain ⟨Q, eQ⟩ : ∃ Q : State → Prop, Q = MQ below (TQ D (pR (fun H b H' => ∃ b_1 : Nat, ∃ b_2 b_3 b_4 : Int32, OA D 2 b [.int (-1), .ref b_1, .int b_2, .int b_3, .int b_4, .int 2] H' ∧ aI D b_1 1 r H' ∧ Off (fun _ => False) H H'))) A s 0 0 (fun q => dB D ≤ q) := ⟨_, rfl⟩
  have hF : Off (fun _ => False) s.heap s.heap := Off.rf
  show W p l e R_J16_sri_B s m A below meth c s.heap [] 0 0 _ _
  rw [← eQ]
  obtain ⟨H, eH⟩ : ∃ H : Heap, H = s.heap := ⟨_, rfl⟩
  obtain ⟨locs, eLc⟩ : ∃ L : List Loc, L = [] := ⟨_, rfl⟩
  have lt_h_x0 := h_x0.lt
  have lt_h_x0r1 := h_x0r1.lt
  rw [← eH, ← eLc]
  have hF : Off (fun _ => False) s.heap H := by rw [eH]; exact hF
  rw [← eH] at h_x0
  rw [← eH] at h_x0r1
  have hS : St D s H locs := by rw [eH, eLc]; exact hS
  refine lv_iload_n hx hb dJ16_shiftRightImpl_0 rfl (lv_at hl 1 rfl) ?_
  refine lv_iconst (v := 5) hx hb dJ16_shiftRightImpl_1 (by decide) ?_
  obtain ⟨v1, ev1, h⟩ := lti_step h
  refine r_iushr hx hb ev1 dJ16_shiftRightImpl_2 ?_
  refine lv_istore_n (lv' := [(2, .int v1), (0, .ref x0), (1, .int x1)]) hx hb dJ16_shiftRightImpl_3 rfl hl (by decide) rfl (fun ls hl => ?_)
  refine lv_iload_n hx hb dJ16_shiftRightImpl_4 rfl (lv_at hl 2 rfl) ?_
  refine lv_bipush (v := 31) hx hb dJ16_shiftRightImpl_5 (by decide) ?_
  obtain ⟨v2, ev2, h⟩ := lti_step h
  refine r_iand hx hb ev2 dJ16_shiftRightImpl_7 ?_
  refine lv_istore_n (lv' := [(3, .int v2), (2, .int v1), (0, .ref x0), (1, .int x1)]) hx hb dJ16_shiftRightImpl_8 rfl hl (by decide) rfl (fun ls hl => ?_)
  refine lv_aload_n hx hb dJ16_shiftRightImpl_9 rfl (lv_at hl 2 rfl) ?_
  refine r_get hx hb hts hown hS h_x0 rfl in_J16 1 (by decide) q436 rfl (v := .ref x0r1) rfl dJ16_shiftRightImpl_10 ?_
  refine r_alen hx hb hS h_x0r1 dJ16_shiftRightImpl_13 ?_
  refine lv_istore (lv' := [(4, .int (nI x0r1n)), (3, .int v2), (2, .int v1), (0, .ref x0), (1, .int x1)]) hx hb dJ16_shiftRightImpl_14 hl (by decide) rfl (fun ls hl => ?_)
  refine lv_null hx hb dJ16_shiftRightImpl_16 ?_
  refine lv_astoreN (lv' := [(5, .null), (4, .int (nI x0r1n)), (3, .int v2), (2, .int v1), (0, .ref x0), (1, .int x1)]) hx hb dJ16_shiftRightImpl_17 hl (by decide) rfl (fun ls hl => ?_)
  refine lv_iload_n hx hb dJ16_shiftRightImpl_19 rfl (lv_at hl 3 rfl) ?_
  refine lv_iload hx hb dJ16_shiftRightImpl_20 (lv_at hl 1 rfl) ?_
  refine lv_icmp_lt (tgt := 44) hx hb dJ16_shiftRightImpl_22 (by decide) (fun c3 => ?_) (fun c3 => ?_)
  · have h := it_pos h c3
    cases h
  · have h := it_neg h c3
    refine lv_aload_n hx hb dJ16_shiftRightImpl_25 rfl (lv_at hl 4 rfl) ?_
    refine r_get hx hb hts hown hS h_x0 rfl in_J16 0 (by decide) q435 rfl (v := .int x0f0) rfl dJ16_shiftRightImpl_26 ?_
    refine lv_if_lt (tgt := 38) hx hb dJ16_shiftRightImpl_29 (by decide) (fun c4 => ?_) (fun c4 => ?_)
    · have h := it_pos h c4
      refine r_gets hx hb hts hown hS 15 rfl q424 dJ16_shiftRightImpl_38 ?_
      refine lv_iconst (v := 1) hx hb dJ16_shiftRightImpl_41 (by decide) ?_
      refine r_aald hx hb hS rfl (hS.1.RA hS.1.1.2.2.2.2.1.1) 1 ⟨rfl, by decide, by decide⟩ dJ16_shiftRightImpl_42 ?_
      obtain ⟨ay5, by5, cy5, zy5⟩ := hS0.1.1.2.2.2.2.1.2.2.2.1
      have wy5 := hS0.1.1.2.2.2.2.1.2.2.2.2
      obtain rfl := Option.some.inj h
      rw [eQ]
      exact r_aret hx hb hr (Or.inl ⟨_, rfl⟩) hlk hS (Nat.le_of_ble_eq_true rfl) (Nat.le_of_ble_eq_true rfl) dJ16_shiftRightImpl_43 ⟨_, rfl, (dN D 16), ay5, by5, cy5, (hS.1.OA zy5), (hS.1.RA wy5), hF⟩
    · have h := it_neg h c4
      cases h

abbrev R_J16_sri_C : Room := { frames := 0, cells := 0, slots := 0, locals := 0 }
noncomputable def f_J16_sri_C (x0f0 : Int32) (x0r1n : Nat) (x0r1c : Nat → Int32) (x1 : Int32) : Option (Int32 × Nat × (Nat → Int32)) :=
  lti (((x1 : Int32).toUInt32 >>> ((5 : Int32).toUInt32 &&& Int32.toUInt32 31)).toInt32) fun v1 =>
  lti (x1 &&& 31) fun v2 =>
  (if v1 < (nI x0r1n) then
    none
  else
    (if x0f0 < 0 then
      none
    else
      some (0, 0, (fun _ => 0))
    )
  )
theorem hd_J16_sri_C : Hd yJ16_shiftRightImpl 1 := by unfold Hd; decide +kernel
set_option maxHeartbeats 4000000 in
set_option maxRecDepth 100000 in
theorem m_J16_sri_C {l : Launch} {D : DD} (x0 : Nat) (x0r1 : Nat) (x0e2 : Int32) (x0e3 : Int32) (x0e4 : Int32) (x0e5 : Int32) (x0f0 : Int32) (x0r1n : Nat) (x0r1c : Nat → Int32) (x1 : Int32) (r : Int32 × Nat × (Nat → Int32)) (h : f_J16_sri_C x0f0 x0r1n x0r1c x1 = some r) : MT l D yJ16_shiftRightImpl cJ16_shiftRightImpl 9 (some (.object "java/math/BigInteger")) 0 0 0 0 [.ref x0, .int x1] (fun H => OA D 2 x0 [.int x0f0, .ref x0r1, .int x0e2, .int x0e3, .int x0e4, .int x0e5] H ∧ aI D x0r1 x0r1n x0r1c H ∧ x0r1n ≤ 1000000) (pR (fun H b H' => ∃ b_1 : Nat, ∃ b_2 b_3 b_4 b_5 : Int32, OA D 2 b [.int r.1, .ref b_1, .int b_2, .int b_3, .int b_4, .int b_5] H' ∧ aI D b_1 r.2.1 r.2.2 H' ∧ r.2.1 ≤ 1000000 ∧ Off (fun _ => False) H H')) := by
  refine MT.start (by decide +kernel) (Nat.le_of_ble_eq_true rfl) ?_
  intro p e s m below meth c ls hC hS hp hl
  obtain ⟨h_x0, h_x0r1, l_x0r1⟩ := hp
  obtain ⟨hx, hb, hr, hlk, hml, hown, hts, hnm⟩ := id hC
  have hl : lv_has ls 9 [(0, .ref x0), (1, .int x1)] := hl
  unfold f_J16_sri_C at h
  have hS0 := hS
  obtain ⟨A, eA⟩ : ∃ A : Array Value, A = [.ref x0, .int x1].toArray := ⟨_, rfl⟩
  rw [← eA] at hC hts ⊢
  obtain ⟨Q, eQ⟩ : ∃ Q : State → Prop, Q = MQ below (TQ D (pR (fun H b H' => ∃ b_1 : Nat, ∃ b_2 b_3 b_4 b_5 : Int32, OA D 2 b [.int r.1, .ref b_1, .int b_2, .int b_3, .int b_4, .int b_5] H' ∧ aI D b_1 r.2.1 r.2.2 H' ∧ r.2.1 ≤ 1000000 ∧ Off (fun _ => False) H H'))) A s 0 0 (fun q => dB D ≤ q) := ⟨_, rfl⟩
  have hF : Off (fun _ => False) s.heap s.heap := Off.rf
  show W p l e R_J16_sri_C s m A below meth c s.heap [] 0 0 _ _
  rw [← eQ]
  obtain ⟨H, eH⟩ : ∃ H : Heap, H = s.heap := ⟨_, rfl⟩
  obtain ⟨locs, eLc⟩ : ∃ L : List Loc, L = [] := ⟨_, rfl⟩
  have lt_h_x0 := h_x0.lt
  have lt_h_x0r1 := h_x0r1.lt
  rw [← eH, ← eLc]
  have hF : Off (fun _ => False) s.heap H := by rw [eH]; exact hF
  rw [← eH] at h_x0
  rw [← eH] at h_x0r1
  have hS : St D s H locs := by rw [eH, eLc]; exact hS
  refine lv_iload_n hx hb dJ16_shiftRightImpl_0 rfl (lv_at hl 1 rfl) ?_
  refine lv_iconst (v := 5) hx hb dJ16_shiftRightImpl_1 (by decide) ?_
  obtain ⟨v1, ev1, h⟩ := lti_step h
  refine r_iushr hx hb ev1 dJ16_shiftRightImpl_2 ?_
  refine lv_istore_n (lv' := [(2, .int v1), (0, .ref x0), (1, .int x1)]) hx hb dJ16_shiftRightImpl_3 rfl hl (by decide) rfl (fun ls hl => ?_)
  refine lv_iload_n hx hb dJ16_shiftRightImpl_4 rfl (lv_at hl 2 rfl) ?_
  refine lv_bipush (v := 31) hx hb dJ16_shiftRightImpl_5 (by decide) ?_
  obtain ⟨v2, ev2, h⟩ := lti_step h
  refine r_iand hx hb ev2 dJ16_shiftRightImpl_7 ?_
  refine lv_istore_n (lv' := [(3, .int v2), (2, .int v1), (0, .ref x0), (1, .int x1)]) hx hb dJ16_shiftRightImpl_8 rfl hl (by decide) rfl (fun ls hl => ?_)
  refine lv_aload_n hx hb dJ16_shiftRightImpl_9 rfl (lv_at hl 2 rfl) ?_
  refine r_get hx hb hts hown hS h_x0 rfl in_J16 1 (by decide) q436 rfl (v := .ref x0r1) rfl dJ16_shiftRightImpl_10 ?_
  refine r_alen hx hb hS h_x0r1 dJ16_shiftRightImpl_13 ?_
  refine lv_istore (lv' := [(4, .int (nI x0r1n)), (3, .int v2), (2, .int v1), (0, .ref x0), (1, .int x1)]) hx hb dJ16_shiftRightImpl_14 hl (by decide) rfl (fun ls hl => ?_)
  refine lv_null hx hb dJ16_shiftRightImpl_16 ?_
  refine lv_astoreN (lv' := [(5, .null), (4, .int (nI x0r1n)), (3, .int v2), (2, .int v1), (0, .ref x0), (1, .int x1)]) hx hb dJ16_shiftRightImpl_17 hl (by decide) rfl (fun ls hl => ?_)
  refine lv_iload_n hx hb dJ16_shiftRightImpl_19 rfl (lv_at hl 3 rfl) ?_
  refine lv_iload hx hb dJ16_shiftRightImpl_20 (lv_at hl 1 rfl) ?_
  refine lv_icmp_lt (tgt := 44) hx hb dJ16_shiftRightImpl_22 (by decide) (fun c3 => ?_) (fun c3 => ?_)
  · have h := it_pos h c3
    cases h
  · have h := it_neg h c3
    refine lv_aload_n hx hb dJ16_shiftRightImpl_25 rfl (lv_at hl 4 rfl) ?_
    refine r_get hx hb hts hown hS h_x0 rfl in_J16 0 (by decide) q435 rfl (v := .int x0f0) rfl dJ16_shiftRightImpl_26 ?_
    refine lv_if_lt (tgt := 38) hx hb dJ16_shiftRightImpl_29 (by decide) (fun c4 => ?_) (fun c4 => ?_)
    · have h := it_pos h c4
      cases h
    · have h := it_neg h c4
      refine r_gets hx hb hts hown hS 14 rfl q418 dJ16_shiftRightImpl_32 ?_
      obtain ⟨ay5, by5, cy5, dy5, zy5⟩ := hS0.1.1.2.2.2.2.1.2.1
      obtain ⟨fy5, wy5⟩ := hS0.1.1.2.2.2.2.1.2.2.1
      have wy5 : aI D (dN D 15) 0 (fun _ => 0) D.1.heap := RA.congr wy5 (fun j hj => absurd hj (Nat.not_lt_zero j))
      refine lv_goto (tgt := 43) hx hb dJ16_shiftRightImpl_35 (by decide) ?_
      obtain rfl := Option.some.inj h
      rw [eQ]
      exact r_aret hx hb hr (Or.inl ⟨_, rfl⟩) hlk hS (Nat.le_of_ble_eq_true rfl) (Nat.le_of_ble_eq_true rfl) dJ16_shiftRightImpl_43 ⟨_, rfl, (dN D 15), ay5, by5, cy5, dy5, (hS.1.OA zy5), (hS.1.RA wy5), (Nat.le_of_ble_eq_true rfl), hF⟩

abbrev R_J16_sr_A : Room := { frames := 4, cells := 3, slots := 30, locals := 90 }
noncomputable def f_J16_sr_A (x0f0 : Int32) (x0r1n : Nat) (x0r1c : Nat → Int32) (x1 : Int32) : Option (Int32 × Nat × (Nat → Int32)) :=
  (if x0f0 = 0 then
    none
  else
    (if x1 ≤ 0 then
      none
    else
      Option.bind (f_J16_sri_A x0f0 x0r1n x0r1c x1) fun o3 =>
      some (o3.1, o3.2.1, o3.2.2)
    )
  )
theorem hd_J16_sr_A : Hd yJ16_shiftRight 1 := by unfold Hd; decide +kernel
set_option maxHeartbeats 4000000 in
set_option maxRecDepth 100000 in
theorem m_J16_sr_A {l : Launch} {D : DD} (x0 : Nat) (x0r1 : Nat) (x0e2 : Int32) (x0e3 : Int32) (x0e4 : Int32) (x0e5 : Int32) (x0f0 : Int32) (x0r1n : Nat) (x0r1c : Nat → Int32) (x1 : Int32) (r : Int32 × Nat × (Nat → Int32)) (h : f_J16_sr_A x0f0 x0r1n x0r1c x1 = some r) : MT l D yJ16_shiftRight cJ16_shiftRight 2 (some (.object "java/math/BigInteger")) 4 90 3 30 [.ref x0, .int x1] (fun H => OA D 2 x0 [.int x0f0, .ref x0r1, .int x0e2, .int x0e3, .int x0e4, .int x0e5] H ∧ aI D x0r1 x0r1n x0r1c H ∧ x0r1n ≤ 1000000) (pR (fun H b H' => ∃ b_1 : Nat, ON D 2 b [.int r.1, .ref b_1, .int 0, .int 0, .int 0, .int 0] H' ∧ aI D b_1 r.2.1 r.2.2 H' ∧ r.2.1 ≤ 1000000 ∧ H.size ≤ b ∧ b ≠ b_1 ∧ Off (fun _ => False) H H')) := by
  refine MT.start (by decide +kernel) (Nat.le_of_ble_eq_true rfl) ?_
  intro p e s m below meth c ls hC hS hp hl
  obtain ⟨h_x0, h_x0r1, l_x0r1⟩ := hp
  obtain ⟨hx, hb, hr, hlk, hml, hown, hts, hnm⟩ := id hC
  have hl : lv_has ls 2 [(0, .ref x0), (1, .int x1)] := hl
  unfold f_J16_sr_A at h
  have hS0 := hS
  obtain ⟨A, eA⟩ : ∃ A : Array Value, A = [.ref x0, .int x1].toArray := ⟨_, rfl⟩
  rw [← eA] at hC hts ⊢
  obtain ⟨Q, eQ⟩ : ∃ Q : State → Prop, Q = MQ below (TQ D (pR (fun H b H' => ∃ b_1 : Nat, ON D 2 b [.int r.1, .ref b_1, .int 0, .int 0, .int 0, .int 0] H' ∧ aI D b_1 r.2.1 r.2.2 H' ∧ r.2.1 ≤ 1000000 ∧ H.size ≤ b ∧ b ≠ b_1 ∧ Off (fun _ => False) H H'))) A s 3 30 (fun q => dB D ≤ q) := ⟨_, rfl⟩
  have hF : Off (fun _ => False) s.heap s.heap := Off.rf
  show W p l e R_J16_sr_A s m A below meth c s.heap [] 0 0 _ _
  rw [← eQ]
  obtain ⟨H, eH⟩ : ∃ H : Heap, H = s.heap := ⟨_, rfl⟩
  obtain ⟨locs, eLc⟩ : ∃ L : List Loc, L = [] := ⟨_, rfl⟩
  have lt_h_x0 := h_x0.lt
  have lt_h_x0r1 := h_x0r1.lt
  rw [← eH, ← eLc]
  have hF : Off (fun _ => False) s.heap H := by rw [eH]; exact hF
  rw [← eH] at h_x0
  rw [← eH] at h_x0r1
  have hS : St D s H locs := by rw [eH, eLc]; exact hS
  refine lv_aload_n hx hb dJ16_shiftRight_0 rfl (lv_at hl 0 rfl) ?_
  refine r_get hx hb hts hown hS h_x0 rfl in_J16 0 (by decide) q435 rfl (v := .int x0f0) rfl dJ16_shiftRight_1 ?_
  refine lv_if_ne (tgt := 11) hx hb dJ16_shiftRight_4 (by decide) (fun c1 => ?_) (fun c1 => ?_)
  · have h := it_neg h c1
    refine lv_iload_n hx hb dJ16_shiftRight_11 rfl (lv_at hl 1 rfl) ?_
    refine lv_if_le (tgt := 21) hx hb dJ16_shiftRight_12 (by decide) (fun c2 => ?_) (fun c2 => ?_)
    · have h := it_pos h c2
      cases h
    · have h := it_neg h c2
      refine lv_aload_n hx hb dJ16_shiftRight_15 rfl (lv_at hl 0 rfl) ?_
      refine lv_iload_n hx hb dJ16_shiftRight_16 rfl (lv_at hl 1 rfl) ?_
      obtain ⟨o3, eo3, h⟩ := bind_step h
      refine r_cr (r_runV (rest := []) (As := [.int x1]) hC 1 (m_J16_sri_A x0 x0r1 x0e2 x0e3 x0e4 x0e5 x0f0 x0r1n x0r1c x1 o3 eo3) q484 q486 qs2 q57 q487 (OA.recv hS h_x0 (C := RJ16) rfl) hd_J16_sri_A rfl ⟨Nat.le_of_ble_eq_true rfl, Nat.le_of_ble_eq_true rfl⟩ hS ⟨h_x0, h_x0r1, l_x0r1⟩ hl.1 rfl (Nat.le_of_ble_eq_true rfl) dJ16_shiftRight_17 ⟨Nat.le_of_ble_eq_true rfl, Nat.le_of_ble_eq_true rfl⟩) hS (fun ad4 H locs hp hS hz => ?_)
      obtain ⟨ad5, had4, had5, lo3_2_1, frad4, ne_ad4_ad5, hO⟩ := hp
      have ne_h_x0_had4 : x0 ≠ ad4 := Nat.ne_of_lt (Nat.lt_of_lt_of_le h_x0.lt frad4)
      have ne_h_x0r1_had4 : x0r1 ≠ ad4 := Nat.ne_of_lt (Nat.lt_of_lt_of_le h_x0r1.lt frad4)
      have gad4 : s.heap.size ≤ ad4 := Nat.le_trans hF.1 frad4
      have hB_had4 : dB D ≤ ad4 := by have := hS0.1.2.2.1; omega
      have h_x0 := h_x0.ext hO
      have h_x0r1 := h_x0r1.ext hO
      have hF := hF.trans (hO.mono (fun _ _ z => z.elim))
      obtain rfl := Option.some.inj h
      rw [eQ]
      exact r_aret hx hb hr (Or.inl ⟨_, rfl⟩) hlk hS (Nat.le_of_ble_eq_true rfl) (Nat.le_of_ble_eq_true rfl) dJ16_shiftRight_20 ⟨_, rfl, ad5, had4, had5, lo3_2_1, gad4, ne_ad4_ad5, hF⟩
  · have h := it_pos h c1
    cases h

abbrev R_J16_sr_B : Room := { frames := 1, cells := 0, slots := 0, locals := 28 }
noncomputable def f_J16_sr_B (x0f0 : Int32) (x0r1n : Nat) (x0r1c : Nat → Int32) (x1 : Int32) : Option ((Nat → Int32)) :=
  (if x0f0 = 0 then
    none
  else
    (if x1 ≤ 0 then
      none
    else
      Option.bind (f_J16_sri_B x0f0 x0r1n x0r1c x1) fun o3 =>
      some o3
    )
  )
theorem hd_J16_sr_B : Hd yJ16_shiftRight 1 := by unfold Hd; decide +kernel
set_option maxHeartbeats 4000000 in
set_option maxRecDepth 100000 in
theorem m_J16_sr_B {l : Launch} {D : DD} (x0 : Nat) (x0r1 : Nat) (x0e2 : Int32) (x0e3 : Int32) (x0e4 : Int32) (x0e5 : Int32) (x0f0 : Int32) (x0r1n : Nat) (x0r1c : Nat → Int32) (x1 : Int32) (r : (Nat → Int32)) (h : f_J16_sr_B x0f0 x0r1n x0r1c x1 = some r) : MT l D yJ16_shiftRight cJ16_shiftRight 2 (some (.object "java/math/BigInteger")) 1 28 0 0 [.ref x0, .int x1] (fun H => OA D 2 x0 [.int x0f0, .ref x0r1, .int x0e2, .int x0e3, .int x0e4, .int x0e5] H ∧ aI D x0r1 x0r1n x0r1c H ∧ x0r1n ≤ 1000000) (pR (fun H b H' => ∃ b_1 : Nat, ∃ b_2 b_3 b_4 : Int32, OA D 2 b [.int (-1), .ref b_1, .int b_2, .int b_3, .int b_4, .int 2] H' ∧ aI D b_1 1 r H' ∧ Off (fun _ => False) H H')) := by
  refine MT.start (by decide +kernel) (Nat.le_of_ble_eq_true rfl) ?_
  intro p e s m below meth c ls hC hS hp hl
  obtain ⟨h_x0, h_x0r1, l_x0r1⟩ := hp
  obtain ⟨hx, hb, hr, hlk, hml, hown, hts, hnm⟩ := id hC
  have hl : lv_has ls 2 [(0, .ref x0), (1, .int x1)] := hl
  unfold f_J16_sr_B at h
  have hS0 := hS
  obtain ⟨A, eA⟩ : ∃ A : Array Value, A = [.ref x0, .int x1].toArray := ⟨_, rfl⟩
  rw [← eA] at hC hts ⊢
  obtain ⟨Q, eQ⟩ : ∃ Q : State → Prop, Q = MQ below (TQ D (pR (fun H b H' => ∃ b_1 : Nat, ∃ b_2 b_3 b_4 : Int32, OA D 2 b [.int (-1), .ref b_1, .int b_2, .int b_3, .int b_4, .int 2] H' ∧ aI D b_1 1 r H' ∧ Off (fun _ => False) H H'))) A s 0 0 (fun q => dB D ≤ q) := ⟨_, rfl⟩
  have hF : Off (fun _ => False) s.heap s.heap := Off.rf
  show W p l e R_J16_sr_B s m A below meth c s.heap [] 0 0 _ _
  rw [← eQ]
  obtain ⟨H, eH⟩ : ∃ H : Heap, H = s.heap := ⟨_, rfl⟩
  obtain ⟨locs, eLc⟩ : ∃ L : List Loc, L = [] := ⟨_, rfl⟩
  have lt_h_x0 := h_x0.lt
  have lt_h_x0r1 := h_x0r1.lt
  rw [← eH, ← eLc]
  have hF : Off (fun _ => False) s.heap H := by rw [eH]; exact hF
  rw [← eH] at h_x0
  rw [← eH] at h_x0r1
  have hS : St D s H locs := by rw [eH, eLc]; exact hS
  refine lv_aload_n hx hb dJ16_shiftRight_0 rfl (lv_at hl 0 rfl) ?_
  refine r_get hx hb hts hown hS h_x0 rfl in_J16 0 (by decide) q435 rfl (v := .int x0f0) rfl dJ16_shiftRight_1 ?_
  refine lv_if_ne (tgt := 11) hx hb dJ16_shiftRight_4 (by decide) (fun c1 => ?_) (fun c1 => ?_)
  · have h := it_neg h c1
    refine lv_iload_n hx hb dJ16_shiftRight_11 rfl (lv_at hl 1 rfl) ?_
    refine lv_if_le (tgt := 21) hx hb dJ16_shiftRight_12 (by decide) (fun c2 => ?_) (fun c2 => ?_)
    · have h := it_pos h c2
      cases h
    · have h := it_neg h c2
      refine lv_aload_n hx hb dJ16_shiftRight_15 rfl (lv_at hl 0 rfl) ?_
      refine lv_iload_n hx hb dJ16_shiftRight_16 rfl (lv_at hl 1 rfl) ?_
      obtain ⟨o3, eo3, h⟩ := bind_step h
      refine r_cr (r_runV (rest := []) (As := [.int x1]) hC 1 (m_J16_sri_B x0 x0r1 x0e2 x0e3 x0e4 x0e5 x0f0 x0r1n x0r1c x1 o3 eo3) q484 q486 qs2 q57 q487 (OA.recv hS h_x0 (C := RJ16) rfl) hd_J16_sri_B rfl ⟨Nat.le_of_ble_eq_true rfl, Nat.le_of_ble_eq_true rfl⟩ hS ⟨h_x0, h_x0r1, l_x0r1⟩ hl.1 rfl (Nat.le_of_ble_eq_true rfl) dJ16_shiftRight_17 ⟨Nat.le_of_ble_eq_true rfl, Nat.le_of_ble_eq_true rfl⟩) hS (fun ad4 H locs hp hS hz => ?_)
      obtain ⟨ad5, e6, e7, e8, had4, had5, hO⟩ := hp
      have h_x0 := h_x0.ext hO
      have h_x0r1 := h_x0r1.ext hO
      have hF := hF.trans (hO.mono (fun _ _ z => z.elim))
      obtain rfl := Option.some.inj h
      rw [eQ]
      exact r_aret hx hb hr (Or.inl ⟨_, rfl⟩) hlk hS (Nat.le_of_ble_eq_true rfl) (Nat.le_of_ble_eq_true rfl) dJ16_shiftRight_20 ⟨_, rfl, ad5, e6, e7, e8, had4, had5, hF⟩
  · have h := it_pos h c1
    cases h

abbrev R_J16_sr_C : Room := { frames := 1, cells := 0, slots := 0, locals := 28 }
noncomputable def f_J16_sr_C (x0f0 : Int32) (x0r1n : Nat) (x0r1c : Nat → Int32) (x1 : Int32) : Option (Int32 × Nat × (Nat → Int32)) :=
  (if x0f0 = 0 then
    some (0, 0, (fun _ => 0))
  else
    (if x1 ≤ 0 then
      none
    else
      Option.bind (f_J16_sri_C x0f0 x0r1n x0r1c x1) fun o3 =>
      some (o3.1, o3.2.1, o3.2.2)
    )
  )
theorem hd_J16_sr_C : Hd yJ16_shiftRight 1 := by unfold Hd; decide +kernel
set_option maxHeartbeats 4000000 in
set_option maxRecDepth 100000 in
theorem m_J16_sr_C {l : Launch} {D : DD} (x0 : Nat) (x0r1 : Nat) (x0e2 : Int32) (x0e3 : Int32) (x0e4 : Int32) (x0e5 : Int32) (x0f0 : Int32) (x0r1n : Nat) (x0r1c : Nat → Int32) (x1 : Int32) (r : Int32 × Nat × (Nat → Int32)) (h : f_J16_sr_C x0f0 x0r1n x0r1c x1 = some r) : MT l D yJ16_shiftRight cJ16_shiftRight 2 (some (.object "java/math/BigInteger")) 1 28 0 0 [.ref x0, .int x1] (fun H => OA D 2 x0 [.int x0f0, .ref x0r1, .int x0e2, .int x0e3, .int x0e4, .int x0e5] H ∧ aI D x0r1 x0r1n x0r1c H ∧ x0r1n ≤ 1000000) (pR (fun H b H' => ∃ b_1 : Nat, ∃ b_2 b_3 b_4 b_5 : Int32, OA D 2 b [.int r.1, .ref b_1, .int b_2, .int b_3, .int b_4, .int b_5] H' ∧ aI D b_1 r.2.1 r.2.2 H' ∧ r.2.1 ≤ 1000000 ∧ Off (fun _ => False) H H')) := by
  refine MT.start (by decide +kernel) (Nat.le_of_ble_eq_true rfl) ?_
  intro p e s m below meth c ls hC hS hp hl
  obtain ⟨h_x0, h_x0r1, l_x0r1⟩ := hp
  obtain ⟨hx, hb, hr, hlk, hml, hown, hts, hnm⟩ := id hC
  have hl : lv_has ls 2 [(0, .ref x0), (1, .int x1)] := hl
  unfold f_J16_sr_C at h
  have hS0 := hS
  obtain ⟨A, eA⟩ : ∃ A : Array Value, A = [.ref x0, .int x1].toArray := ⟨_, rfl⟩
  rw [← eA] at hC hts ⊢
  obtain ⟨Q, eQ⟩ : ∃ Q : State → Prop, Q = MQ below (TQ D (pR (fun H b H' => ∃ b_1 : Nat, ∃ b_2 b_3 b_4 b_5 : Int32, OA D 2 b [.int r.1, .ref b_1, .int b_2, .int b_3, .int b_4, .int b_5] H' ∧ aI D b_1 r.2.1 r.2.2 H' ∧ r.2.1 ≤ 1000000 ∧ Off (fun _ => False) H H'))) A s 0 0 (fun q => dB D ≤ q) := ⟨_, rfl⟩
  have hF : Off (fun _ => False) s.heap s.heap := Off.rf
  show W p l e R_J16_sr_C s m A below meth c s.heap [] 0 0 _ _
  rw [← eQ]
  obtain ⟨H, eH⟩ : ∃ H : Heap, H = s.heap := ⟨_, rfl⟩
  obtain ⟨locs, eLc⟩ : ∃ L : List Loc, L = [] := ⟨_, rfl⟩
  have lt_h_x0 := h_x0.lt
  have lt_h_x0r1 := h_x0r1.lt
  rw [← eH, ← eLc]
  have hF : Off (fun _ => False) s.heap H := by rw [eH]; exact hF
  rw [← eH] at h_x0
  rw [← eH] at h_x0r1
  have hS : St D s H locs := by rw [eH, eLc]; exact hS
  refine lv_aload_n hx hb dJ16_shiftRight_0 rfl (lv_at hl 0 rfl) ?_
  refine r_get hx hb hts hown hS h_x0 rfl in_J16 0 (by decide) q435 rfl (v := .int x0f0) rfl dJ16_shiftRight_1 ?_
  refine lv_if_ne (tgt := 11) hx hb dJ16_shiftRight_4 (by decide) (fun c1 => ?_) (fun c1 => ?_)
  · have h := it_neg h c1
    refine lv_iload_n hx hb dJ16_shiftRight_11 rfl (lv_at hl 1 rfl) ?_
    refine lv_if_le (tgt := 21) hx hb dJ16_shiftRight_12 (by decide) (fun c2 => ?_) (fun c2 => ?_)
    · have h := it_pos h c2
      cases h
    · have h := it_neg h c2
      refine lv_aload_n hx hb dJ16_shiftRight_15 rfl (lv_at hl 0 rfl) ?_
      refine lv_iload_n hx hb dJ16_shiftRight_16 rfl (lv_at hl 1 rfl) ?_
      obtain ⟨o3, eo3, h⟩ := bind_step h
      refine r_cr (r_runV (rest := []) (As := [.int x1]) hC 1 (m_J16_sri_C x0 x0r1 x0e2 x0e3 x0e4 x0e5 x0f0 x0r1n x0r1c x1 o3 eo3) q484 q486 qs2 q57 q487 (OA.recv hS h_x0 (C := RJ16) rfl) hd_J16_sri_C rfl ⟨Nat.le_of_ble_eq_true rfl, Nat.le_of_ble_eq_true rfl⟩ hS ⟨h_x0, h_x0r1, l_x0r1⟩ hl.1 rfl (Nat.le_of_ble_eq_true rfl) dJ16_shiftRight_17 ⟨Nat.le_of_ble_eq_true rfl, Nat.le_of_ble_eq_true rfl⟩) hS (fun ad4 H locs hp hS hz => ?_)
      obtain ⟨ad5, e6, e7, e8, e9, had4, had5, lo3_2_1, hO⟩ := hp
      have h_x0 := h_x0.ext hO
      have h_x0r1 := h_x0r1.ext hO
      have hF := hF.trans (hO.mono (fun _ _ z => z.elim))
      obtain rfl := Option.some.inj h
      rw [eQ]
      exact r_aret hx hb hr (Or.inl ⟨_, rfl⟩) hlk hS (Nat.le_of_ble_eq_true rfl) (Nat.le_of_ble_eq_true rfl) dJ16_shiftRight_20 ⟨_, rfl, ad5, e6, e7, e8, e9, had4, had5, lo3_2_1, hF⟩
  · have h := it_pos h c1
    refine r_gets hx hb hts hown hS 14 rfl q418 dJ16_shiftRight_7 ?_
    obtain ⟨ay10, by10, cy10, dy10, zy10⟩ := hS0.1.1.2.2.2.2.1.2.1
    obtain ⟨fy10, wy10⟩ := hS0.1.1.2.2.2.2.1.2.2.1
    have wy10 : aI D (dN D 15) 0 (fun _ => 0) D.1.heap := RA.congr wy10 (fun j hj => absurd hj (Nat.not_lt_zero j))
    obtain rfl := Option.some.inj h
    rw [eQ]
    exact r_aret hx hb hr (Or.inl ⟨_, rfl⟩) hlk hS (Nat.le_of_ble_eq_true rfl) (Nat.le_of_ble_eq_true rfl) dJ16_shiftRight_10 ⟨_, rfl, (dN D 15), ay10, by10, cy10, dy10, (hS.1.OA zy10), (hS.1.RA wy10), (Nat.le_of_ble_eq_true rfl), hF⟩

abbrev R_J16_signInt : Room := { frames := 0, cells := 0, slots := 0, locals := 0 }
noncomputable def f_J16_signInt (x0f0 : Int32) (x0r1n : Nat) (x0r1c : Nat → Int32) : Option (Int32) :=
  (if 0 ≤ x0f0 then
    some 0
  else
    some (-1)
  )
theorem hd_J16_signInt : Hd yJ16_signInt 0 := by unfold Hd; decide +kernel
set_option maxHeartbeats 4000000 in
set_option maxRecDepth 100000 in
theorem m_J16_signInt {l : Launch} {D : DD} (x0 : Nat) (x0r1 : Nat) (x0e2 : Int32) (x0e3 : Int32) (x0e4 : Int32) (x0e5 : Int32) (x0f0 : Int32) (x0r1n : Nat) (x0r1c : Nat → Int32) (r : Int32) (h : f_J16_signInt x0f0 x0r1n x0r1c = some r) : MP l D yJ16_signInt cJ16_signInt 1 (some .int) 0 0 [.ref x0] (fun H => OA D 2 x0 [.int x0f0, .ref x0r1, .int x0e2, .int x0e3, .int x0e4, .int x0e5] H ∧ aI D x0r1 x0r1n x0r1c H ∧ x0r1n ≤ 1000000) (some (.int r)) := by
  refine MP.start (by decide +kernel) (Nat.le_of_ble_eq_true rfl) ?_
  intro p e s m below meth c ls hC hS hp hl
  obtain ⟨h_x0, h_x0r1, l_x0r1⟩ := hp
  obtain ⟨hx, hb, hr, hlk, hml, hown, hts, hnm⟩ := id hC
  have hl : lv_has ls 1 [(0, .ref x0)] := hl
  unfold f_J16_signInt at h
  have hS0 := hS
  obtain ⟨A, eA⟩ : ∃ A : Array Value, A = [.ref x0].toArray := ⟨_, rfl⟩
  rw [← eA] at hC hts ⊢
  obtain ⟨Q, eQ⟩ : ∃ Q : State → Prop, Q = MQ below (PQ (some (.int r))) A s 0 0 (fun _ => False) := ⟨_, rfl⟩
  show W p l e R_J16_signInt s m A below meth c s.heap [] 0 0 _ _
  rw [← eQ]
  refine lv_aload_n hx hb dJ16_signInt_0 rfl (lv_at hl 0 rfl) ?_
  refine r_get hx hb hts hown hS h_x0 rfl in_J16 0 (by decide) q435 rfl (v := .int x0f0) rfl dJ16_signInt_1 ?_
  refine lv_if_ge (tgt := 11) hx hb dJ16_signInt_4 (by decide) (fun c1 => ?_) (fun c1 => ?_)
  · have h := it_pos h c1
    refine lv_iconst (v := 0) hx hb dJ16_signInt_11 (by decide) ?_
    obtain rfl := Option.some.inj h
    rw [eQ]
    exact p_iret hx hb hr hlk dJ16_signInt_12 rfl
  · have h := it_neg h c1
    refine lv_iconst (v := (-1)) hx hb dJ16_signInt_7 (by decide) ?_
    refine lv_goto (tgt := 12) hx hb dJ16_signInt_8 (by decide) ?_
    obtain rfl := Option.some.inj h
    rw [eQ]
    exact p_iret hx hb hr hlk dJ16_signInt_12 rfl

abbrev R_J16_fn_A : Room := { frames := 0, cells := 0, slots := 0, locals := 0 }
noncomputable def f_J16_fn_A (x0f0 : Int32) (x0r1n : Nat) (x0r1c : Nat → Int32) : Option (Int32 × Int32) :=
  lti ((0 : Int32) - 2) fun v1 =>
  (if v1 = (-2) then
    lti ((nI x0r1n) - 1) fun v3 =>
    lt (fun (v4 : Int32) =>
    (show Option (Sum (Int32) (Int32)) from (
    (if v4 < 0 then
      some (.inr v4)
    else
      gd x0r1n v4 fun i15 =>
      lti (x0r1c i15) fun v16 =>
      (if v16 = 0 then
        lti (v4 + (-1)) fun v18 =>
        some (.inl v18)
      else
        some (.inr v4)
      )
    )
    ))
    ) fun F11 =>
    Option.bind (lp 41 (fun x => F11 x) v3) fun w12 =>
    lti ((nI x0r1n) - w12) fun v19 =>
    lti (v19 - 1) fun v20 =>
    lti (v20 + 2) fun v21 =>
    some (v20, v21)
  else
    some (v1, 0)
  )
theorem hd_J16_fn_A : Hd yJ16_firstNonzeroIntNum 0 := by unfold Hd; decide +kernel
set_option maxHeartbeats 4000000 in
set_option maxRecDepth 100000 in
theorem m_J16_fn_A {l : Launch} {D : DD} (x0 : Nat) (x0r1 : Nat)  (x0f0 : Int32) (x0r1n : Nat) (x0r1c : Nat → Int32) (r : Int32 × Int32) (h : f_J16_fn_A x0f0 x0r1n x0r1c = some r) : MT l D yJ16_firstNonzeroIntNum cJ16_firstNonzeroIntNum 4 (some .int) 0 0 0 0 [.ref x0] (fun H => ON D 2 x0 [.int x0f0, .ref x0r1, .int 0, .int 0, .int 0, .int 0] H ∧ dB D ≤ x0 ∧ aI D x0r1 x0r1n x0r1c H ∧ x0r1n ≤ 1000000 ∧ x0 ≠ x0r1) (pI (fun H b H' => b = r.1 ∧ ON D 2 x0 [.int x0f0, .ref x0r1, .int 0, .int 0, .int 0, .int r.2] H' ∧ Off (fun a => a = x0) H H')) := by
  refine MT.start (by decide +kernel) (Nat.le_of_ble_eq_true rfl) ?_
  intro p e s m below meth c ls hC hS hp hl
  obtain ⟨h_x0, hB_h_x0, h_x0r1, l_x0r1, ne_x0_x0r1⟩ := hp
  obtain ⟨hx, hb, hr, hlk, hml, hown, hts, hnm⟩ := id hC
  have hl : lv_has ls 4 [(0, .ref x0)] := hl
  unfold f_J16_fn_A at h
  have hS0 := hS
  obtain ⟨A, eA⟩ : ∃ A : Array Value, A = [.ref x0].toArray := ⟨_, rfl⟩
  rw [← eA] at hC hts ⊢
  obtain ⟨Q, eQ⟩ : ∃ Q : State → Prop, Q = MQ below (TQ D (pI (fun H b H' => b = r.1 ∧ ON D 2 x0 [.int x0f0, .ref x0r1, .int 0, .int 0, .int 0, .int r.2] H' ∧ Off (fun a => a = x0) H H'))) A s 0 0 (fun q => dB D ≤ q) := ⟨_, rfl⟩
  have hF : Off (fun a => a = x0) s.heap s.heap := Off.rf
  show W p l e R_J16_fn_A s m A below meth c s.heap [] 0 0 _ _
  rw [← eQ]
  obtain ⟨H, eH⟩ : ∃ H : Heap, H = s.heap := ⟨_, rfl⟩
  obtain ⟨locs, eLc⟩ : ∃ L : List Loc, L = [] := ⟨_, rfl⟩
  have lt_h_x0 := h_x0.lt
  have lt_h_x0r1 := h_x0r1.lt
  rw [← eH, ← eLc]
  have hF : Off (fun a => a = x0) s.heap H := by rw [eH]; exact hF
  rw [← eH] at h_x0
  rw [← eH] at h_x0r1
  have hS : St D s H locs := by rw [eH, eLc]; exact hS
  refine lv_aload_n hx hb dJ16_firstNonzeroIntNum_0 rfl (lv_at hl 0 rfl) ?_
  refine r_get hx hb hts hown hS h_x0.OA rfl in_J16 5 (by decide) q437 rfl (v := .int 0) rfl dJ16_firstNonzeroIntNum_1 ?_
  refine lv_iconst (v := 2) hx hb dJ16_firstNonzeroIntNum_4 (by decide) ?_
  obtain ⟨v1, ev1, h⟩ := lti_step h
  refine r_isub hx hb ev1 dJ16_firstNonzeroIntNum_5 ?_
  refine lv_istore_n (lv' := [(1, .int v1), (0, .ref x0)]) hx hb dJ16_firstNonzeroIntNum_6 rfl hl (by decide) rfl (fun ls hl => ?_)
  refine lv_iload_n hx hb dJ16_firstNonzeroIntNum_7 rfl (lv_at hl 0 rfl) ?_
  refine lv_bipush (v := (-2)) hx hb dJ16_firstNonzeroIntNum_8 (by decide) ?_
  refine lv_icmp_ne (tgt := 55) hx hb dJ16_firstNonzeroIntNum_10 (by decide) (fun c2 => ?_) (fun c2 => ?_)
  · have h := it_neg h c2
    refine lv_iload_n hx hb dJ16_firstNonzeroIntNum_55 rfl (lv_at hl 0 rfl) ?_
    obtain rfl := Option.some.inj h
    rw [eQ]
    exact r_iret hx hb hr hlk hS (Nat.le_of_ble_eq_true rfl) (Nat.le_of_ble_eq_true rfl) dJ16_firstNonzeroIntNum_56 ⟨_, rfl, rfl, h_x0, hF⟩
  · have h := it_pos h c2
    refine lv_aload_n hx hb dJ16_firstNonzeroIntNum_13 rfl (lv_at hl 1 rfl) ?_
    refine r_get hx hb hts hown hS h_x0.OA rfl in_J16 1 (by decide) q436 rfl (v := .ref x0r1) rfl dJ16_firstNonzeroIntNum_14 ?_
    refine r_alen hx hb hS h_x0r1 dJ16_firstNonzeroIntNum_17 ?_
    refine lv_istore_n (lv' := [(3, .int (nI x0r1n)), (1, .int v1), (0, .ref x0)]) hx hb dJ16_firstNonzeroIntNum_18 rfl hl (by decide) rfl (fun ls hl => ?_)
    refine lv_iload_n hx hb dJ16_firstNonzeroIntNum_19 rfl (lv_at hl 0 rfl) ?_
    refine lv_iconst (v := 1) hx hb dJ16_firstNonzeroIntNum_20 (by decide) ?_
    obtain ⟨v3, ev3, h⟩ := lti_step h
    refine r_isub hx hb ev3 dJ16_firstNonzeroIntNum_21 ?_
    refine lv_istore_n (lv' := [(2, .int v3), (3, .int (nI x0r1n)), (1, .int v1), (0, .ref x0)]) hx hb dJ16_firstNonzeroIntNum_22 rfl hl (by decide) rfl (fun ls hl => ?_)
    obtain ⟨F11, eF11, h⟩ := lt_step h
    obtain ⟨w12, ew12, h⟩ := bind_step h
    have HL : ∀ (n : Nat) (v4 : Int32) (w12 : Int32) (hk0 : lp n (fun x => F11 x) v4 = some w12)  (H : Heap) (locs : List Loc) (hS : St D s H locs) (hF : Off (fun a => a = x0) s.heap H) (h_x0 : ON D 2 x0 [.int x0f0, .ref x0r1, .int 0, .int 0, .int 0, .int 0] H) (h_x0r1 : aI D x0r1 x0r1n x0r1c H) (ls : Array Slot) (hl : lv_has ls 4 [(0, .ref x0), (2, .int v4), (3, .int (nI x0r1n))]) (K42 : ∀ (H : Heap) (locs : List Loc) (hS : St D s H locs) (hF : Off (fun a => a = x0) s.heap H) (h_x0 : ON D 2 x0 [.int x0f0, .ref x0r1, .int 0, .int 0, .int 0, .int 0] H) (h_x0r1 : aI D x0r1 x0r1n x0r1c H) (ls : Array Slot) (hl : lv_has ls 4 [(0, .ref x0), (2, .int w12), (3, .int (nI x0r1n))]), W p l e R_J16_fn_A s m A below meth c H locs 0 0 Q (F0 m 42 ls [])), W p l e R_J16_fn_A s m A below meth c H locs 0 0 Q (F0 m 23 ls []) := by
      intro n
      induction n with
      | zero => intro v4 w12 hk0  H locs hS hF h_x0 h_x0r1 ls hl K42; exact lp_zero hk0
      | succ n ih =>
        intro v4 w12 hk0  H locs hS hF h_x0 h_x0r1 ls hl K42
        obtain ⟨z13, hz, hk⟩ := lp_step hk0
        have h := (congrFun (eF11) v4).symm.trans hz
        refine lv_iload_n hx hb dJ16_firstNonzeroIntNum_23 rfl (lv_at hl 1 rfl) ?_
        refine lv_if_lt (tgt := 42) hx hb dJ16_firstNonzeroIntNum_24 (by decide) (fun c14 => ?_) (fun c14 => ?_)
        · have h := it_pos h c14
          obtain rfl := Option.some.inj h
          obtain rfl := id hk
          exact K42 H locs hS hF h_x0 h_x0r1 ls (lv_sub hl [0, 1, 2] rfl)
        · have h := it_neg h c14
          refine lv_aload_n hx hb dJ16_firstNonzeroIntNum_27 rfl (lv_at hl 0 rfl) ?_
          refine r_get hx hb hts hown hS h_x0.OA rfl in_J16 1 (by decide) q436 rfl (v := .ref x0r1) rfl dJ16_firstNonzeroIntNum_28 ?_
          refine lv_iload_n hx hb dJ16_firstNonzeroIntNum_31 rfl (lv_at hl 1 rfl) ?_
          obtain ⟨i15, xi15, h⟩ := gd_step (nl0 l_x0r1) h
          refine r_iald hx hb hS h_x0r1 i15 xi15 dJ16_firstNonzeroIntNum_32 ?_
          obtain ⟨v16, ev16, h⟩ := lti_step h
          refine r_nmI ev16 ?_
          refine lv_if_ne (tgt := 42) hx hb dJ16_firstNonzeroIntNum_33 (by decide) (fun c17 => ?_) (fun c17 => ?_)
          · have h := it_neg h c17
            obtain rfl := Option.some.inj h
            obtain rfl := id hk
            exact K42 H locs hS hF h_x0 h_x0r1 ls (lv_sub hl [0, 1, 2] rfl)
          · have h := it_pos h c17
            obtain ⟨v18, ev18, h⟩ := lti_step h
            refine lv_iinc (v := v18) (lv' := [(2, .int v18), (0, .ref x0), (3, .int (nI x0r1n))]) hx hb dJ16_firstNonzeroIntNum_36 hl (k := 1) rfl (by rw [ev18]; rfl) (by decide) rfl (fun ls hl => ?_)
            refine lv_goto (tgt := 23) hx hb dJ16_firstNonzeroIntNum_39 (by decide) ?_
            obtain rfl := Option.some.inj h
            exact ih v18 w12 hk  H locs hS hF h_x0 h_x0r1 ls (lv_sub hl [1, 0, 2] rfl) K42
    clear eF11
    refine HL 41 v3 w12 ew12  H locs hS hF h_x0 h_x0r1 ls (lv_sub hl [3, 0, 1] rfl) (fun  H locs hS hF h_x0 h_x0r1 ls hl => ?_)
    refine lv_iload_n hx hb dJ16_firstNonzeroIntNum_42 rfl (lv_at hl 2 rfl) ?_
    refine lv_iload_n hx hb dJ16_firstNonzeroIntNum_43 rfl (lv_at hl 1 rfl) ?_
    obtain ⟨v19, ev19, h⟩ := lti_step h
    refine r_isub hx hb ev19 dJ16_firstNonzeroIntNum_44 ?_
    refine lv_iconst (v := 1) hx hb dJ16_firstNonzeroIntNum_45 (by decide) ?_
    obtain ⟨v20, ev20, h⟩ := lti_step h
    refine r_isub hx hb ev20 dJ16_firstNonzeroIntNum_46 ?_
    refine lv_istore_n (lv' := [(1, .int v20), (0, .ref x0), (2, .int w12), (3, .int (nI x0r1n))]) hx hb dJ16_firstNonzeroIntNum_47 rfl hl (by decide) rfl (fun ls hl => ?_)
    refine lv_aload_n hx hb dJ16_firstNonzeroIntNum_48 rfl (lv_at hl 1 rfl) ?_
    refine lv_iload_n hx hb dJ16_firstNonzeroIntNum_49 rfl (lv_at hl 0 rfl) ?_
    refine lv_iconst (v := 2) hx hb dJ16_firstNonzeroIntNum_50 (by decide) ?_
    obtain ⟨v21, ev21, h⟩ := lti_step h
    refine r_iadd hx hb ev21 dJ16_firstNonzeroIntNum_51 ?_
    refine r_put hx hb hts hown hS h_x0 hB_h_x0 rfl in_J16 tyJ16 tyJ16_ok nmJ16 5 (Nat.le_of_ble_eq_true rfl) rfl q437 rfl rfl (v := .int v21) rfl (by rfl) dJ16_firstNonzeroIntNum_52 (fun H locs hS hO h_x0 => ?_)
    have h_x0 : ON D 2 x0 [.int x0f0, .ref x0r1, .int 0, .int 0, .int 0, .int v21] H := h_x0
    have h_x0r1 := h_x0r1.off hO (Ne.symm ne_x0_x0r1)
    have hF := hF.fresh hO (fun a ha z => z)
    refine lv_iload_n hx hb dJ16_firstNonzeroIntNum_55 rfl (lv_at hl 0 rfl) ?_
    obtain rfl := Option.some.inj h
    rw [eQ]
    exact r_iret hx hb hr hlk hS (Nat.le_of_ble_eq_true rfl) (Nat.le_of_ble_eq_true rfl) dJ16_firstNonzeroIntNum_56 ⟨_, rfl, rfl, h_x0, hF⟩

abbrev R_J16_fn_B : Room := { frames := 0, cells := 0, slots := 0, locals := 0 }
noncomputable def f_J16_fn_B (x0r1c : Nat → Int32) : Option (Int32) :=
  lti ((2 : Int32) - 2) fun v1 =>
  (if v1 = (-2) then
    none
  else
    some v1
  )
theorem hd_J16_fn_B : Hd yJ16_firstNonzeroIntNum 0 := by unfold Hd; decide +kernel
set_option maxHeartbeats 4000000 in
set_option maxRecDepth 100000 in
theorem m_J16_fn_B {l : Launch} {D : DD} (x0 : Nat) (x0r1 : Nat) (x0e2 : Int32) (x0e3 : Int32) (x0e4 : Int32) (x0r1c : Nat → Int32) (r : Int32) (h : f_J16_fn_B x0r1c = some r) : MP l D yJ16_firstNonzeroIntNum cJ16_firstNonzeroIntNum 4 (some .int) 0 0 [.ref x0] (fun H => OA D 2 x0 [.int (-1), .ref x0r1, .int x0e2, .int x0e3, .int x0e4, .int 2] H ∧ aI D x0r1 1 x0r1c H) (some (.int r)) := by
  refine MP.start (by decide +kernel) (Nat.le_of_ble_eq_true rfl) ?_
  intro p e s m below meth c ls hC hS hp hl
  obtain ⟨h_x0, h_x0r1⟩ := hp
  obtain ⟨hx, hb, hr, hlk, hml, hown, hts, hnm⟩ := id hC
  have hl : lv_has ls 4 [(0, .ref x0)] := hl
  unfold f_J16_fn_B at h
  have hS0 := hS
  obtain ⟨A, eA⟩ : ∃ A : Array Value, A = [.ref x0].toArray := ⟨_, rfl⟩
  rw [← eA] at hC hts ⊢
  obtain ⟨Q, eQ⟩ : ∃ Q : State → Prop, Q = MQ below (PQ (some (.int r))) A s 0 0 (fun _ => False) := ⟨_, rfl⟩
  show W p l e R_J16_fn_B s m A below meth c s.heap [] 0 0 _ _
  rw [← eQ]
  refine lv_aload_n hx hb dJ16_firstNonzeroIntNum_0 rfl (lv_at hl 0 rfl) ?_
  refine r_get hx hb hts hown hS h_x0 rfl in_J16 5 (by decide) q437 rfl (v := .int 2) rfl dJ16_firstNonzeroIntNum_1 ?_
  refine lv_iconst (v := 2) hx hb dJ16_firstNonzeroIntNum_4 (by decide) ?_
  obtain ⟨v1, ev1, h⟩ := lti_step h
  refine r_isub hx hb ev1 dJ16_firstNonzeroIntNum_5 ?_
  refine lv_istore_n (lv' := [(1, .int v1), (0, .ref x0)]) hx hb dJ16_firstNonzeroIntNum_6 rfl hl (by decide) rfl (fun ls hl => ?_)
  refine lv_iload_n hx hb dJ16_firstNonzeroIntNum_7 rfl (lv_at hl 0 rfl) ?_
  refine lv_bipush (v := (-2)) hx hb dJ16_firstNonzeroIntNum_8 (by decide) ?_
  refine lv_icmp_ne (tgt := 55) hx hb dJ16_firstNonzeroIntNum_10 (by decide) (fun c2 => ?_) (fun c2 => ?_)
  · have h := it_neg h c2
    refine lv_iload_n hx hb dJ16_firstNonzeroIntNum_55 rfl (lv_at hl 0 rfl) ?_
    obtain rfl := Option.some.inj h
    rw [eQ]
    exact p_iret hx hb hr hlk dJ16_firstNonzeroIntNum_56 rfl
  · have h := it_pos h c2
    cases h

abbrev R_J16_gi_A : Room := { frames := 1, cells := 0, slots := 0, locals := 23 }
noncomputable def f_J16_gi_A (x0f0 : Int32) (x0r1n : Nat) (x0r1c : Nat → Int32) (x1 : Int32) : Option (Int32 × Int32) :=
  (if 0 ≤ x1 then
    (if x1 < (nI x0r1n) then
      lti ((nI x0r1n) - x1) fun v3 =>
      lti (v3 - 1) fun v4 =>
      gd x0r1n v4 fun i5 =>
      lti (x0r1c i5) fun v6 =>
      (if x0f0 < 0 then
        Option.bind (f_J16_fn_A x0f0 x0r1n x0r1c) fun o8 =>
        (if o8.1 < x1 then
          lti (v6 ^^^ (-1)) fun v10 =>
          some (v10, o8.2)
        else
          lti (-v6) fun v11 =>
          some (v11, o8.2)
        )
      else
        some (v6, 0)
      )
    else
      Option.bind (f_J16_signInt x0f0 x0r1n x0r1c) fun o12 =>
      some (o12, 0)
    )
  else
    some (0, 0)
  )
theorem hd_J16_gi_A : Hd yJ16_getInt 1 := by unfold Hd; decide +kernel
set_option maxHeartbeats 4000000 in
set_option maxRecDepth 100000 in
theorem m_J16_gi_A {l : Launch} {D : DD} (x0 : Nat) (x0r1 : Nat)  (x0f0 : Int32) (x0r1n : Nat) (x0r1c : Nat → Int32) (x1 : Int32) (r : Int32 × Int32) (h : f_J16_gi_A x0f0 x0r1n x0r1c x1 = some r) : MT l D yJ16_getInt cJ16_getInt 3 (some .int) 1 23 0 0 [.ref x0, .int x1] (fun H => ON D 2 x0 [.int x0f0, .ref x0r1, .int 0, .int 0, .int 0, .int 0] H ∧ dB D ≤ x0 ∧ aI D x0r1 x0r1n x0r1c H ∧ x0r1n ≤ 1000000 ∧ x0 ≠ x0r1) (pI (fun H b H' => b = r.1 ∧ ON D 2 x0 [.int x0f0, .ref x0r1, .int 0, .int 0, .int 0, .int r.2] H' ∧ Off (fun a => a = x0) H H')) := by
  refine MT.start (by decide +kernel) (Nat.le_of_ble_eq_true rfl) ?_
  intro p e s m below meth c ls hC hS hp hl
  obtain ⟨h_x0, hB_h_x0, h_x0r1, l_x0r1, ne_x0_x0r1⟩ := hp
  obtain ⟨hx, hb, hr, hlk, hml, hown, hts, hnm⟩ := id hC
  have hl : lv_has ls 3 [(0, .ref x0), (1, .int x1)] := hl
  unfold f_J16_gi_A at h
  have hS0 := hS
  obtain ⟨A, eA⟩ : ∃ A : Array Value, A = [.ref x0, .int x1].toArray := ⟨_, rfl⟩
  rw [← eA] at hC hts ⊢
  obtain ⟨Q, eQ⟩ : ∃ Q : State → Prop, Q = MQ below (TQ D (pI (fun H b H' => b = r.1 ∧ ON D 2 x0 [.int x0f0, .ref x0r1, .int 0, .int 0, .int 0, .int r.2] H' ∧ Off (fun a => a = x0) H H'))) A s 0 0 (fun q => dB D ≤ q) := ⟨_, rfl⟩
  have hF : Off (fun a => a = x0) s.heap s.heap := Off.rf
  show W p l e R_J16_gi_A s m A below meth c s.heap [] 0 0 _ _
  rw [← eQ]
  obtain ⟨H, eH⟩ : ∃ H : Heap, H = s.heap := ⟨_, rfl⟩
  obtain ⟨locs, eLc⟩ : ∃ L : List Loc, L = [] := ⟨_, rfl⟩
  have lt_h_x0 := h_x0.lt
  have lt_h_x0r1 := h_x0r1.lt
  rw [← eH, ← eLc]
  have hF : Off (fun a => a = x0) s.heap H := by rw [eH]; exact hF
  rw [← eH] at h_x0
  rw [← eH] at h_x0r1
  have hS : St D s H locs := by rw [eH, eLc]; exact hS
  refine lv_iload_n hx hb dJ16_getInt_0 rfl (lv_at hl 1 rfl) ?_
  refine lv_if_ge (tgt := 6) hx hb dJ16_getInt_1 (by decide) (fun c1 => ?_) (fun c1 => ?_)
  · have h := it_pos h c1
    refine lv_iload_n hx hb dJ16_getInt_6 rfl (lv_at hl 1 rfl) ?_
    refine lv_aload_n hx hb dJ16_getInt_7 rfl (lv_at hl 0 rfl) ?_
    refine r_get hx hb hts hown hS h_x0.OA rfl in_J16 1 (by decide) q436 rfl (v := .ref x0r1) rfl dJ16_getInt_8 ?_
    refine r_alen hx hb hS h_x0r1 dJ16_getInt_11 ?_
    refine lv_icmp_lt (tgt := 20) hx hb dJ16_getInt_12 (by decide) (fun c2 => ?_) (fun c2 => ?_)
    · have h := it_pos h c2
      refine lv_aload_n hx hb dJ16_getInt_20 rfl (lv_at hl 0 rfl) ?_
      refine r_get hx hb hts hown hS h_x0.OA rfl in_J16 1 (by decide) q436 rfl (v := .ref x0r1) rfl dJ16_getInt_21 ?_
      refine lv_aload_n hx hb dJ16_getInt_24 rfl (lv_at hl 0 rfl) ?_
      refine r_get hx hb hts hown hS h_x0.OA rfl in_J16 1 (by decide) q436 rfl (v := .ref x0r1) rfl dJ16_getInt_25 ?_
      refine r_alen hx hb hS h_x0r1 dJ16_getInt_28 ?_
      refine lv_iload_n hx hb dJ16_getInt_29 rfl (lv_at hl 1 rfl) ?_
      obtain ⟨v3, ev3, h⟩ := lti_step h
      refine r_isub hx hb ev3 dJ16_getInt_30 ?_
      refine lv_iconst (v := 1) hx hb dJ16_getInt_31 (by decide) ?_
      obtain ⟨v4, ev4, h⟩ := lti_step h
      refine r_isub hx hb ev4 dJ16_getInt_32 ?_
      obtain ⟨i5, xi5, h⟩ := gd_step (nl0 l_x0r1) h
      refine r_iald hx hb hS h_x0r1 i5 xi5 dJ16_getInt_33 ?_
      obtain ⟨v6, ev6, h⟩ := lti_step h
      refine r_nmI ev6 ?_
      refine lv_istore_n (lv' := [(2, .int v6), (0, .ref x0), (1, .int x1)]) hx hb dJ16_getInt_34 rfl hl (by decide) rfl (fun ls hl => ?_)
      refine lv_aload_n hx hb dJ16_getInt_35 rfl (lv_at hl 1 rfl) ?_
      refine r_get hx hb hts hown hS h_x0.OA rfl in_J16 0 (by decide) q435 rfl (v := .int x0f0) rfl dJ16_getInt_36 ?_
      refine lv_if_lt (tgt := 46) hx hb dJ16_getInt_39 (by decide) (fun c7 => ?_) (fun c7 => ?_)
      · have h := it_pos h c7
        refine lv_iload_n hx hb dJ16_getInt_46 rfl (lv_at hl 2 rfl) ?_
        refine lv_aload_n hx hb dJ16_getInt_47 rfl (lv_at hl 1 rfl) ?_
        obtain ⟨o8, eo8, h⟩ := bind_step h
        refine r_ci (r_runV (rest := [.int x1]) (As := []) hC 0 (m_J16_fn_A x0 x0r1  x0f0 x0r1n x0r1c o8 eo8) q1222 q1224 qs16 q57 q1225 (OA.recv hS h_x0.OA (C := RJ16) rfl) hd_J16_fn_A rfl ⟨Nat.le_of_ble_eq_true rfl, Nat.le_of_ble_eq_true rfl⟩ hS ⟨h_x0, hB_h_x0, h_x0r1, l_x0r1, ne_x0_x0r1⟩ hl.1 rfl (Nat.le_of_ble_eq_true rfl) dJ16_getInt_48 ⟨Nat.le_of_ble_eq_true rfl, Nat.le_of_ble_eq_true rfl⟩) hS (fun b H locs hp hS hz => ?_)
        obtain ⟨rfl, h_x0, hO⟩ := hp
        have h_x0r1 := h_x0r1.off hO (Ne.symm ne_x0_x0r1)
        have hF := hF.fresh hO (fun a ha z => z)
        refine lv_icmp_gt (tgt := 59) hx hb dJ16_getInt_51 (by decide) (fun c9 => ?_) (fun c9 => ?_)
        · have h := it_pos h c9
          refine lv_iload_n hx hb dJ16_getInt_59 rfl (lv_at hl 0 rfl) ?_
          refine lv_iconst (v := (-1)) hx hb dJ16_getInt_60 (by decide) ?_
          obtain ⟨v10, ev10, h⟩ := lti_step h
          refine r_ixor hx hb ev10 dJ16_getInt_61 ?_
          obtain rfl := Option.some.inj h
          rw [eQ]
          exact r_iret hx hb hr hlk hS (Nat.le_of_ble_eq_true rfl) (Nat.le_of_ble_eq_true rfl) dJ16_getInt_62 ⟨_, rfl, rfl, h_x0, hF⟩
        · have h := it_neg h c9
          refine lv_iload_n hx hb dJ16_getInt_54 rfl (lv_at hl 0 rfl) ?_
          obtain ⟨v11, ev11, h⟩ := lti_step h
          refine r_ineg hx hb ev11 dJ16_getInt_55 ?_
          refine lv_goto (tgt := 62) hx hb dJ16_getInt_56 (by decide) ?_
          obtain rfl := Option.some.inj h
          rw [eQ]
          exact r_iret hx hb hr hlk hS (Nat.le_of_ble_eq_true rfl) (Nat.le_of_ble_eq_true rfl) dJ16_getInt_62 ⟨_, rfl, rfl, h_x0, hF⟩
      · have h := it_neg h c7
        refine lv_iload_n hx hb dJ16_getInt_42 rfl (lv_at hl 0 rfl) ?_
        refine lv_goto (tgt := 62) hx hb dJ16_getInt_43 (by decide) ?_
        obtain rfl := Option.some.inj h
        rw [eQ]
        exact r_iret hx hb hr hlk hS (Nat.le_of_ble_eq_true rfl) (Nat.le_of_ble_eq_true rfl) dJ16_getInt_62 ⟨_, rfl, rfl, h_x0, hF⟩
    · have h := it_neg h c2
      refine lv_aload_n hx hb dJ16_getInt_15 rfl (lv_at hl 0 rfl) ?_
      obtain ⟨o12, eo12, h⟩ := bind_step h
      refine r_cp (r_runV (rest := []) (As := []) hC 0 (m_J16_signInt x0 x0r1 0 0 0 0 x0f0 x0r1n x0r1c o12 eo12) q1218 q1220 qs15 q57 q1221 (OA.recv hS h_x0.OA (C := RJ16) rfl) hd_J16_signInt rfl ⟨Nat.le_of_ble_eq_true rfl, Nat.le_of_ble_eq_true rfl⟩ hS ⟨h_x0.OA, h_x0r1, l_x0r1⟩ hl.1 rfl (Nat.le_of_ble_eq_true rfl) dJ16_getInt_16 ⟨Nat.le_of_ble_eq_true rfl, Nat.le_of_ble_eq_true rfl⟩) ?_
      obtain rfl := Option.some.inj h
      rw [eQ]
      exact r_iret hx hb hr hlk hS (Nat.le_of_ble_eq_true rfl) (Nat.le_of_ble_eq_true rfl) dJ16_getInt_19 ⟨_, rfl, rfl, h_x0, hF⟩
  · have h := it_neg h c1
    refine lv_iconst (v := 0) hx hb dJ16_getInt_4 (by decide) ?_
    obtain rfl := Option.some.inj h
    rw [eQ]
    exact r_iret hx hb hr hlk hS (Nat.le_of_ble_eq_true rfl) (Nat.le_of_ble_eq_true rfl) dJ16_getInt_5 ⟨_, rfl, rfl, h_x0, hF⟩

abbrev R_J16_gi_B : Room := { frames := 1, cells := 0, slots := 0, locals := 23 }
noncomputable def f_J16_gi_B (x0r1c : Nat → Int32) (x1 : Int32) : Option (Int32) :=
  (if 0 ≤ x1 then
    (if x1 < 1 then
      lti (1 - x1) fun v3 =>
      lti (v3 - 1) fun v4 =>
      gd 1 v4 fun i5 =>
      lti (x0r1c i5) fun v6 =>
      Option.bind (f_J16_fn_B x0r1c) fun o8 =>
      (if o8 < x1 then
        lti (v6 ^^^ (-1)) fun v10 =>
        some v10
      else
        lti (-v6) fun v11 =>
        some v11
      )
    else
      Option.bind (f_J16_signInt (-1) 1 x0r1c) fun o12 =>
      some o12
    )
  else
    some 0
  )
theorem hd_J16_gi_B : Hd yJ16_getInt 1 := by unfold Hd; decide +kernel
set_option maxHeartbeats 4000000 in
set_option maxRecDepth 100000 in
theorem m_J16_gi_B {l : Launch} {D : DD} (x0 : Nat) (x0r1 : Nat) (x0e2 : Int32) (x0e3 : Int32) (x0e4 : Int32) (x0r1c : Nat → Int32) (x1 : Int32) (r : Int32) (h : f_J16_gi_B x0r1c x1 = some r) : MP l D yJ16_getInt cJ16_getInt 3 (some .int) 1 23 [.ref x0, .int x1] (fun H => OA D 2 x0 [.int (-1), .ref x0r1, .int x0e2, .int x0e3, .int x0e4, .int 2] H ∧ aI D x0r1 1 x0r1c H) (some (.int r)) := by
  refine MP.start (by decide +kernel) (Nat.le_of_ble_eq_true rfl) ?_
  intro p e s m below meth c ls hC hS hp hl
  obtain ⟨h_x0, h_x0r1⟩ := hp
  obtain ⟨hx, hb, hr, hlk, hml, hown, hts, hnm⟩ := id hC
  have hl : lv_has ls 3 [(0, .ref x0), (1, .int x1)] := hl
  unfold f_J16_gi_B at h
  have hS0 := hS
  obtain ⟨A, eA⟩ : ∃ A : Array Value, A = [.ref x0, .int x1].toArray := ⟨_, rfl⟩
  rw [← eA] at hC hts ⊢
  obtain ⟨Q, eQ⟩ : ∃ Q : State → Prop, Q = MQ below (PQ (some (.int r))) A s 0 0 (fun _ => False) := ⟨_, rfl⟩
  show W p l e R_J16_gi_B s m A below meth c s.heap [] 0 0 _ _
  rw [← eQ]
  refine lv_iload_n hx hb dJ16_getInt_0 rfl (lv_at hl 1 rfl) ?_
  refine lv_if_ge (tgt := 6) hx hb dJ16_getInt_1 (by decide) (fun c1 => ?_) (fun c1 => ?_)
  · have h := it_pos h c1
    refine lv_iload_n hx hb dJ16_getInt_6 rfl (lv_at hl 1 rfl) ?_
    refine lv_aload_n hx hb dJ16_getInt_7 rfl (lv_at hl 0 rfl) ?_
    refine r_get hx hb hts hown hS h_x0 rfl in_J16 1 (by decide) q436 rfl (v := .ref x0r1) rfl dJ16_getInt_8 ?_
    refine r_alen hx hb hS h_x0r1 dJ16_getInt_11 ?_
    refine lv_icmp_lt (tgt := 20) hx hb dJ16_getInt_12 (by decide) (fun c2 => ?_) (fun c2 => ?_)
    · have h := it_pos h c2
      refine lv_aload_n hx hb dJ16_getInt_20 rfl (lv_at hl 0 rfl) ?_
      refine r_get hx hb hts hown hS h_x0 rfl in_J16 1 (by decide) q436 rfl (v := .ref x0r1) rfl dJ16_getInt_21 ?_
      refine lv_aload_n hx hb dJ16_getInt_24 rfl (lv_at hl 0 rfl) ?_
      refine r_get hx hb hts hown hS h_x0 rfl in_J16 1 (by decide) q436 rfl (v := .ref x0r1) rfl dJ16_getInt_25 ?_
      refine r_alen hx hb hS h_x0r1 dJ16_getInt_28 ?_
      refine lv_iload_n hx hb dJ16_getInt_29 rfl (lv_at hl 1 rfl) ?_
      obtain ⟨v3, ev3, h⟩ := lti_step h
      refine r_isub hx hb ev3 dJ16_getInt_30 ?_
      refine lv_iconst (v := 1) hx hb dJ16_getInt_31 (by decide) ?_
      obtain ⟨v4, ev4, h⟩ := lti_step h
      refine r_isub hx hb ev4 dJ16_getInt_32 ?_
      obtain ⟨i5, xi5, h⟩ := gd_step (by decide) h
      refine r_iald hx hb hS h_x0r1 i5 xi5 dJ16_getInt_33 ?_
      obtain ⟨v6, ev6, h⟩ := lti_step h
      refine r_nmI ev6 ?_
      refine lv_istore_n (lv' := [(2, .int v6), (0, .ref x0), (1, .int x1)]) hx hb dJ16_getInt_34 rfl hl (by decide) rfl (fun ls hl => ?_)
      refine lv_aload_n hx hb dJ16_getInt_35 rfl (lv_at hl 1 rfl) ?_
      refine r_get hx hb hts hown hS h_x0 rfl in_J16 0 (by decide) q435 rfl (v := .int (-1)) rfl dJ16_getInt_36 ?_
      refine lv_if_lt (tgt := 46) hx hb dJ16_getInt_39 (by decide) (fun c7 => ?_) (fun c7 => ?_)
      rotate_left
      · exact absurd c7 (by decide)
      refine lv_iload_n hx hb dJ16_getInt_46 rfl (lv_at hl 2 rfl) ?_
      refine lv_aload_n hx hb dJ16_getInt_47 rfl (lv_at hl 1 rfl) ?_
      obtain ⟨o8, eo8, h⟩ := bind_step h
      refine r_cp (r_runV (rest := [.int x1]) (As := []) hC 0 (m_J16_fn_B x0 x0r1 x0e2 x0e3 x0e4 x0r1c o8 eo8) q1222 q1224 qs16 q57 q1225 (OA.recv hS h_x0 (C := RJ16) rfl) hd_J16_fn_B rfl ⟨Nat.le_of_ble_eq_true rfl, Nat.le_of_ble_eq_true rfl⟩ hS ⟨h_x0, h_x0r1⟩ hl.1 rfl (Nat.le_of_ble_eq_true rfl) dJ16_getInt_48 ⟨Nat.le_of_ble_eq_true rfl, Nat.le_of_ble_eq_true rfl⟩) ?_
      refine lv_icmp_gt (tgt := 59) hx hb dJ16_getInt_51 (by decide) (fun c9 => ?_) (fun c9 => ?_)
      · have h := it_pos h c9
        refine lv_iload_n hx hb dJ16_getInt_59 rfl (lv_at hl 0 rfl) ?_
        refine lv_iconst (v := (-1)) hx hb dJ16_getInt_60 (by decide) ?_
        obtain ⟨v10, ev10, h⟩ := lti_step h
        refine r_ixor hx hb ev10 dJ16_getInt_61 ?_
        obtain rfl := Option.some.inj h
        rw [eQ]
        exact p_iret hx hb hr hlk dJ16_getInt_62 rfl
      · have h := it_neg h c9
        refine lv_iload_n hx hb dJ16_getInt_54 rfl (lv_at hl 0 rfl) ?_
        obtain ⟨v11, ev11, h⟩ := lti_step h
        refine r_ineg hx hb ev11 dJ16_getInt_55 ?_
        refine lv_goto (tgt := 62) hx hb dJ16_getInt_56 (by decide) ?_
        obtain rfl := Option.some.inj h
        rw [eQ]
        exact p_iret hx hb hr hlk dJ16_getInt_62 rfl
    · have h := it_neg h c2
      refine lv_aload_n hx hb dJ16_getInt_15 rfl (lv_at hl 0 rfl) ?_
      obtain ⟨o12, eo12, h⟩ := bind_step h
      refine r_cp (r_runV (rest := []) (As := []) hC 0 (m_J16_signInt x0 x0r1 x0e2 x0e3 x0e4 2 (-1) 1 x0r1c o12 eo12) q1218 q1220 qs15 q57 q1221 (OA.recv hS h_x0 (C := RJ16) rfl) hd_J16_signInt rfl ⟨Nat.le_of_ble_eq_true rfl, Nat.le_of_ble_eq_true rfl⟩ hS ⟨h_x0, h_x0r1, (Nat.le_of_ble_eq_true rfl)⟩ hl.1 rfl (Nat.le_of_ble_eq_true rfl) dJ16_getInt_16 ⟨Nat.le_of_ble_eq_true rfl, Nat.le_of_ble_eq_true rfl⟩) ?_
      obtain rfl := Option.some.inj h
      rw [eQ]
      exact p_iret hx hb hr hlk dJ16_getInt_19 rfl
  · have h := it_neg h c1
    refine lv_iconst (v := 0) hx hb dJ16_getInt_4 (by decide) ?_
    obtain rfl := Option.some.inj h
    rw [eQ]
    exact p_iret hx hb hr hlk dJ16_getInt_5 rfl

abbrev R_J16_gi_C : Room := { frames := 1, cells := 0, slots := 0, locals := 20 }
noncomputable def f_J16_gi_C (x0f0 : Int32) (x0r1n : Nat) (x0r1c : Nat → Int32) (x1 : Int32) : Option (Int32) :=
  (if 0 ≤ x1 then
    (if x1 < (nI x0r1n) then
      lti ((nI x0r1n) - x1) fun v3 =>
      lti (v3 - 1) fun v4 =>
      gd x0r1n v4 fun i5 =>
      lti (x0r1c i5) fun v6 =>
      (if x0f0 < 0 then
        none
      else
        some v6
      )
    else
      Option.bind (f_J16_signInt x0f0 x0r1n x0r1c) fun o8 =>
      some o8
    )
  else
    some 0
  )
theorem hd_J16_gi_C : Hd yJ16_getInt 1 := by unfold Hd; decide +kernel
set_option maxHeartbeats 4000000 in
set_option maxRecDepth 100000 in
theorem m_J16_gi_C {l : Launch} {D : DD} (x0 : Nat) (x0r1 : Nat) (x0e2 : Int32) (x0e3 : Int32) (x0e4 : Int32) (x0e5 : Int32) (x0f0 : Int32) (x0r1n : Nat) (x0r1c : Nat → Int32) (x1 : Int32) (r : Int32) (h : f_J16_gi_C x0f0 x0r1n x0r1c x1 = some r) : MP l D yJ16_getInt cJ16_getInt 3 (some .int) 1 20 [.ref x0, .int x1] (fun H => OA D 2 x0 [.int x0f0, .ref x0r1, .int x0e2, .int x0e3, .int x0e4, .int x0e5] H ∧ aI D x0r1 x0r1n x0r1c H ∧ x0r1n ≤ 1000000) (some (.int r)) := by
  refine MP.start (by decide +kernel) (Nat.le_of_ble_eq_true rfl) ?_
  intro p e s m below meth c ls hC hS hp hl
  obtain ⟨h_x0, h_x0r1, l_x0r1⟩ := hp
  obtain ⟨hx, hb, hr, hlk, hml, hown, hts, hnm⟩ := id hC
  have hl : lv_has ls 3 [(0, .ref x0), (1, .int x1)] := hl
  unfold f_J16_gi_C at h
  have hS0 := hS
  obtain ⟨A, eA⟩ : ∃ A : Array Value, A = [.ref x0, .int x1].toArray := ⟨_, rfl⟩
  rw [← eA] at hC hts ⊢
  obtain ⟨Q, eQ⟩ : ∃ Q : State → Prop, Q = MQ below (PQ (some (.int r))) A s 0 0 (fun _ => False) := ⟨_, rfl⟩
  show W p l e R_J16_gi_C s m A below meth c s.heap [] 0 0 _ _
  rw [← eQ]
  refine lv_iload_n hx hb dJ16_getInt_0 rfl (lv_at hl 1 rfl) ?_
  refine lv_if_ge (tgt := 6) hx hb dJ16_getInt_1 (by decide) (fun c1 => ?_) (fun c1 => ?_)
  · have h := it_pos h c1
    refine lv_iload_n hx hb dJ16_getInt_6 rfl (lv_at hl 1 rfl) ?_
    refine lv_aload_n hx hb dJ16_getInt_7 rfl (lv_at hl 0 rfl) ?_
    refine r_get hx hb hts hown hS h_x0 rfl in_J16 1 (by decide) q436 rfl (v := .ref x0r1) rfl dJ16_getInt_8 ?_
    refine r_alen hx hb hS h_x0r1 dJ16_getInt_11 ?_
    refine lv_icmp_lt (tgt := 20) hx hb dJ16_getInt_12 (by decide) (fun c2 => ?_) (fun c2 => ?_)
    · have h := it_pos h c2
      refine lv_aload_n hx hb dJ16_getInt_20 rfl (lv_at hl 0 rfl) ?_
      refine r_get hx hb hts hown hS h_x0 rfl in_J16 1 (by decide) q436 rfl (v := .ref x0r1) rfl dJ16_getInt_21 ?_
      refine lv_aload_n hx hb dJ16_getInt_24 rfl (lv_at hl 0 rfl) ?_
      refine r_get hx hb hts hown hS h_x0 rfl in_J16 1 (by decide) q436 rfl (v := .ref x0r1) rfl dJ16_getInt_25 ?_
      refine r_alen hx hb hS h_x0r1 dJ16_getInt_28 ?_
      refine lv_iload_n hx hb dJ16_getInt_29 rfl (lv_at hl 1 rfl) ?_
      obtain ⟨v3, ev3, h⟩ := lti_step h
      refine r_isub hx hb ev3 dJ16_getInt_30 ?_
      refine lv_iconst (v := 1) hx hb dJ16_getInt_31 (by decide) ?_
      obtain ⟨v4, ev4, h⟩ := lti_step h
      refine r_isub hx hb ev4 dJ16_getInt_32 ?_
      obtain ⟨i5, xi5, h⟩ := gd_step (nl0 l_x0r1) h
      refine r_iald hx hb hS h_x0r1 i5 xi5 dJ16_getInt_33 ?_
      obtain ⟨v6, ev6, h⟩ := lti_step h
      refine r_nmI ev6 ?_
      refine lv_istore_n (lv' := [(2, .int v6), (0, .ref x0), (1, .int x1)]) hx hb dJ16_getInt_34 rfl hl (by decide) rfl (fun ls hl => ?_)
      refine lv_aload_n hx hb dJ16_getInt_35 rfl (lv_at hl 1 rfl) ?_
      refine r_get hx hb hts hown hS h_x0 rfl in_J16 0 (by decide) q435 rfl (v := .int x0f0) rfl dJ16_getInt_36 ?_
      refine lv_if_lt (tgt := 46) hx hb dJ16_getInt_39 (by decide) (fun c7 => ?_) (fun c7 => ?_)
      · have h := it_pos h c7
        cases h
      · have h := it_neg h c7
        refine lv_iload_n hx hb dJ16_getInt_42 rfl (lv_at hl 0 rfl) ?_
        refine lv_goto (tgt := 62) hx hb dJ16_getInt_43 (by decide) ?_
        obtain rfl := Option.some.inj h
        rw [eQ]
        exact p_iret hx hb hr hlk dJ16_getInt_62 rfl
    · have h := it_neg h c2
      refine lv_aload_n hx hb dJ16_getInt_15 rfl (lv_at hl 0 rfl) ?_
      obtain ⟨o8, eo8, h⟩ := bind_step h
      refine r_cp (r_runV (rest := []) (As := []) hC 0 (m_J16_signInt x0 x0r1 x0e2 x0e3 x0e4 x0e5 x0f0 x0r1n x0r1c o8 eo8) q1218 q1220 qs15 q57 q1221 (OA.recv hS h_x0 (C := RJ16) rfl) hd_J16_signInt rfl ⟨Nat.le_of_ble_eq_true rfl, Nat.le_of_ble_eq_true rfl⟩ hS ⟨h_x0, h_x0r1, l_x0r1⟩ hl.1 rfl (Nat.le_of_ble_eq_true rfl) dJ16_getInt_16 ⟨Nat.le_of_ble_eq_true rfl, Nat.le_of_ble_eq_true rfl⟩) ?_
      obtain rfl := Option.some.inj h
      rw [eQ]
      exact p_iret hx hb hr hlk dJ16_getInt_19 rfl
  · have h := it_neg h c1
    refine lv_iconst (v := 0) hx hb dJ16_getInt_4 (by decide) ?_
    obtain rfl := Option.some.inj h
    rw [eQ]
    exact p_iret hx hb hr hlk dJ16_getInt_5 rfl

abbrev R_J16_iv_A : Room := { frames := 2, cells := 0, slots := 0, locals := 45 }
noncomputable def f_J16_iv_A (x0f0 : Int32) (x0r1n : Nat) (x0r1c : Nat → Int32) : Option (Int32 × Int32) :=
  Option.bind (f_J16_gi_A x0f0 x0r1n x0r1c 0) fun o1 =>
  some (o1.1, o1.2)
theorem hd_J16_iv_A : Hd yJ16_intValue 0 := by unfold Hd; decide +kernel
set_option maxHeartbeats 4000000 in
set_option maxRecDepth 100000 in
theorem m_J16_iv_A {l : Launch} {D : DD} (x0 : Nat) (x0r1 : Nat)  (x0f0 : Int32) (x0r1n : Nat) (x0r1c : Nat → Int32) (r : Int32 × Int32) (h : f_J16_iv_A x0f0 x0r1n x0r1c = some r) : MT l D yJ16_intValue cJ16_intValue 2 (some .int) 2 45 0 0 [.ref x0] (fun H => ON D 2 x0 [.int x0f0, .ref x0r1, .int 0, .int 0, .int 0, .int 0] H ∧ dB D ≤ x0 ∧ aI D x0r1 x0r1n x0r1c H ∧ x0r1n ≤ 1000000 ∧ x0 ≠ x0r1) (pI (fun H b H' => b = r.1 ∧ ON D 2 x0 [.int x0f0, .ref x0r1, .int 0, .int 0, .int 0, .int r.2] H' ∧ Off (fun a => a = x0) H H')) := by
  refine MT.start (by decide +kernel) (Nat.le_of_ble_eq_true rfl) ?_
  intro p e s m below meth c ls hC hS hp hl
  obtain ⟨h_x0, hB_h_x0, h_x0r1, l_x0r1, ne_x0_x0r1⟩ := hp
  obtain ⟨hx, hb, hr, hlk, hml, hown, hts, hnm⟩ := id hC
  have hl : lv_has ls 2 [(0, .ref x0)] := hl
  unfold f_J16_iv_A at h
  have hS0 := hS
  obtain ⟨A, eA⟩ : ∃ A : Array Value, A = [.ref x0].toArray := ⟨_, rfl⟩
  rw [← eA] at hC hts ⊢
  obtain ⟨Q, eQ⟩ : ∃ Q : State → Prop, Q = MQ below (TQ D (pI (fun H b H' => b = r.1 ∧ ON D 2 x0 [.int x0f0, .ref x0r1, .int 0, .int 0, .int 0, .int r.2] H' ∧ Off (fun a => a = x0) H H'))) A s 0 0 (fun q => dB D ≤ q) := ⟨_, rfl⟩
  have hF : Off (fun a => a = x0) s.heap s.heap := Off.rf
  show W p l e R_J16_iv_A s m A below meth c s.heap [] 0 0 _ _
  rw [← eQ]
  obtain ⟨H, eH⟩ : ∃ H : Heap, H = s.heap := ⟨_, rfl⟩
  obtain ⟨locs, eLc⟩ : ∃ L : List Loc, L = [] := ⟨_, rfl⟩
  have lt_h_x0 := h_x0.lt
  have lt_h_x0r1 := h_x0r1.lt
  rw [← eH, ← eLc]
  have hF : Off (fun a => a = x0) s.heap H := by rw [eH]; exact hF
  rw [← eH] at h_x0
  rw [← eH] at h_x0r1
  have hS : St D s H locs := by rw [eH, eLc]; exact hS
  refine lv_iconst (v := 0) hx hb dJ16_intValue_0 (by decide) ?_
  refine lv_istore_n (lv' := [(1, .int 0), (0, .ref x0)]) hx hb dJ16_intValue_1 rfl hl (by decide) rfl (fun ls hl => ?_)
  refine lv_aload_n hx hb dJ16_intValue_2 rfl (lv_at hl 1 rfl) ?_
  refine lv_iconst (v := 0) hx hb dJ16_intValue_3 (by decide) ?_
  obtain ⟨o1, eo1, h⟩ := bind_step h
  refine r_ci (r_runV (rest := []) (As := [.int 0]) hC 1 (m_J16_gi_A x0 x0r1  x0f0 x0r1n x0r1c 0 o1 eo1) q1214 q1216 qs14 q57 q1217 (OA.recv hS h_x0.OA (C := RJ16) rfl) hd_J16_gi_A rfl ⟨Nat.le_of_ble_eq_true rfl, Nat.le_of_ble_eq_true rfl⟩ hS ⟨h_x0, hB_h_x0, h_x0r1, l_x0r1, ne_x0_x0r1⟩ hl.1 rfl (Nat.le_of_ble_eq_true rfl) dJ16_intValue_4 ⟨Nat.le_of_ble_eq_true rfl, Nat.le_of_ble_eq_true rfl⟩) hS (fun b H locs hp hS hz => ?_)
  obtain ⟨rfl, h_x0, hO⟩ := hp
  have h_x0r1 := h_x0r1.off hO (Ne.symm ne_x0_x0r1)
  have hF := hF.fresh hO (fun a ha z => z)
  refine lv_istore_n (lv' := [(1, .int o1.1), (0, .ref x0)]) hx hb dJ16_intValue_7 rfl hl (by decide) rfl (fun ls hl => ?_)
  refine lv_iload_n hx hb dJ16_intValue_8 rfl (lv_at hl 0 rfl) ?_
  obtain rfl := Option.some.inj h
  rw [eQ]
  exact r_iret hx hb hr hlk hS (Nat.le_of_ble_eq_true rfl) (Nat.le_of_ble_eq_true rfl) dJ16_intValue_9 ⟨_, rfl, rfl, h_x0, hF⟩

abbrev R_J16_iv_B : Room := { frames := 2, cells := 0, slots := 0, locals := 45 }
noncomputable def f_J16_iv_B (x0r1c : Nat → Int32) : Option (Int32) :=
  Option.bind (f_J16_gi_B x0r1c 0) fun o1 =>
  some o1
theorem hd_J16_iv_B : Hd yJ16_intValue 0 := by unfold Hd; decide +kernel
set_option maxHeartbeats 4000000 in
set_option maxRecDepth 100000 in
theorem m_J16_iv_B {l : Launch} {D : DD} (x0 : Nat) (x0r1 : Nat) (x0e2 : Int32) (x0e3 : Int32) (x0e4 : Int32) (x0r1c : Nat → Int32) (r : Int32) (h : f_J16_iv_B x0r1c = some r) : MP l D yJ16_intValue cJ16_intValue 2 (some .int) 2 45 [.ref x0] (fun H => OA D 2 x0 [.int (-1), .ref x0r1, .int x0e2, .int x0e3, .int x0e4, .int 2] H ∧ aI D x0r1 1 x0r1c H) (some (.int r)) := by
  refine MP.start (by decide +kernel) (Nat.le_of_ble_eq_true rfl) ?_
  intro p e s m below meth c ls hC hS hp hl
  obtain ⟨h_x0, h_x0r1⟩ := hp
  obtain ⟨hx, hb, hr, hlk, hml, hown, hts, hnm⟩ := id hC
  have hl : lv_has ls 2 [(0, .ref x0)] := hl
  unfold f_J16_iv_B at h
  have hS0 := hS
  obtain ⟨A, eA⟩ : ∃ A : Array Value, A = [.ref x0].toArray := ⟨_, rfl⟩
  rw [← eA] at hC hts ⊢
  obtain ⟨Q, eQ⟩ : ∃ Q : State → Prop, Q = MQ below (PQ (some (.int r))) A s 0 0 (fun _ => False) := ⟨_, rfl⟩
  show W p l e R_J16_iv_B s m A below meth c s.heap [] 0 0 _ _
  rw [← eQ]
  refine lv_iconst (v := 0) hx hb dJ16_intValue_0 (by decide) ?_
  refine lv_istore_n (lv' := [(1, .int 0), (0, .ref x0)]) hx hb dJ16_intValue_1 rfl hl (by decide) rfl (fun ls hl => ?_)
  refine lv_aload_n hx hb dJ16_intValue_2 rfl (lv_at hl 1 rfl) ?_
  refine lv_iconst (v := 0) hx hb dJ16_intValue_3 (by decide) ?_
  obtain ⟨o1, eo1, h⟩ := bind_step h
  refine r_cp (r_runV (rest := []) (As := [.int 0]) hC 1 (m_J16_gi_B x0 x0r1 x0e2 x0e3 x0e4 x0r1c 0 o1 eo1) q1214 q1216 qs14 q57 q1217 (OA.recv hS h_x0 (C := RJ16) rfl) hd_J16_gi_B rfl ⟨Nat.le_of_ble_eq_true rfl, Nat.le_of_ble_eq_true rfl⟩ hS ⟨h_x0, h_x0r1⟩ hl.1 rfl (Nat.le_of_ble_eq_true rfl) dJ16_intValue_4 ⟨Nat.le_of_ble_eq_true rfl, Nat.le_of_ble_eq_true rfl⟩) ?_
  refine lv_istore_n (lv' := [(1, .int o1), (0, .ref x0)]) hx hb dJ16_intValue_7 rfl hl (by decide) rfl (fun ls hl => ?_)
  refine lv_iload_n hx hb dJ16_intValue_8 rfl (lv_at hl 0 rfl) ?_
  obtain rfl := Option.some.inj h
  rw [eQ]
  exact p_iret hx hb hr hlk dJ16_intValue_9 rfl

abbrev R_J16_iv_C : Room := { frames := 2, cells := 0, slots := 0, locals := 42 }
noncomputable def f_J16_iv_C (x0f0 : Int32) (x0r1n : Nat) (x0r1c : Nat → Int32) : Option (Int32) :=
  Option.bind (f_J16_gi_C x0f0 x0r1n x0r1c 0) fun o1 =>
  some o1
theorem hd_J16_iv_C : Hd yJ16_intValue 0 := by unfold Hd; decide +kernel
set_option maxHeartbeats 4000000 in
set_option maxRecDepth 100000 in
theorem m_J16_iv_C {l : Launch} {D : DD} (x0 : Nat) (x0r1 : Nat) (x0e2 : Int32) (x0e3 : Int32) (x0e4 : Int32) (x0e5 : Int32) (x0f0 : Int32) (x0r1n : Nat) (x0r1c : Nat → Int32) (r : Int32) (h : f_J16_iv_C x0f0 x0r1n x0r1c = some r) : MP l D yJ16_intValue cJ16_intValue 2 (some .int) 2 42 [.ref x0] (fun H => OA D 2 x0 [.int x0f0, .ref x0r1, .int x0e2, .int x0e3, .int x0e4, .int x0e5] H ∧ aI D x0r1 x0r1n x0r1c H ∧ x0r1n ≤ 1000000) (some (.int r)) := by
  refine MP.start (by decide +kernel) (Nat.le_of_ble_eq_true rfl) ?_
  intro p e s m below meth c ls hC hS hp hl
  obtain ⟨h_x0, h_x0r1, l_x0r1⟩ := hp
  obtain ⟨hx, hb, hr, hlk, hml, hown, hts, hnm⟩ := id hC
  have hl : lv_has ls 2 [(0, .ref x0)] := hl
  unfold f_J16_iv_C at h
  have hS0 := hS
  obtain ⟨A, eA⟩ : ∃ A : Array Value, A = [.ref x0].toArray := ⟨_, rfl⟩
  rw [← eA] at hC hts ⊢
  obtain ⟨Q, eQ⟩ : ∃ Q : State → Prop, Q = MQ below (PQ (some (.int r))) A s 0 0 (fun _ => False) := ⟨_, rfl⟩
  show W p l e R_J16_iv_C s m A below meth c s.heap [] 0 0 _ _
  rw [← eQ]
  refine lv_iconst (v := 0) hx hb dJ16_intValue_0 (by decide) ?_
  refine lv_istore_n (lv' := [(1, .int 0), (0, .ref x0)]) hx hb dJ16_intValue_1 rfl hl (by decide) rfl (fun ls hl => ?_)
  refine lv_aload_n hx hb dJ16_intValue_2 rfl (lv_at hl 1 rfl) ?_
  refine lv_iconst (v := 0) hx hb dJ16_intValue_3 (by decide) ?_
  obtain ⟨o1, eo1, h⟩ := bind_step h
  refine r_cp (r_runV (rest := []) (As := [.int 0]) hC 1 (m_J16_gi_C x0 x0r1 x0e2 x0e3 x0e4 x0e5 x0f0 x0r1n x0r1c 0 o1 eo1) q1214 q1216 qs14 q57 q1217 (OA.recv hS h_x0 (C := RJ16) rfl) hd_J16_gi_C rfl ⟨Nat.le_of_ble_eq_true rfl, Nat.le_of_ble_eq_true rfl⟩ hS ⟨h_x0, h_x0r1, l_x0r1⟩ hl.1 rfl (Nat.le_of_ble_eq_true rfl) dJ16_intValue_4 ⟨Nat.le_of_ble_eq_true rfl, Nat.le_of_ble_eq_true rfl⟩) ?_
  refine lv_istore_n (lv' := [(1, .int o1), (0, .ref x0)]) hx hb dJ16_intValue_7 rfl hl (by decide) rfl (fun ls hl => ?_)
  refine lv_iload_n hx hb dJ16_intValue_8 rfl (lv_at hl 0 rfl) ?_
  obtain rfl := Option.some.inj h
  rw [eQ]
  exact p_iret hx hb hr hlk dJ16_intValue_9 rfl

