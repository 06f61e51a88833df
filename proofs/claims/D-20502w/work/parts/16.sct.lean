/-! Sin, Cos, Tan.compute, StrictMath.sin, cos, tan: by tools/gen16.py -/
abbrev R_J7_compute : Room := { frames := 7, cells := 6, slots := 85, locals := 1364 }
noncomputable def f_J7_compute (x0 : UInt64) : Option (UInt64) :=
  Option.bind (f_J8___HI x0) fun o2 =>
  lti (o2 &&& 2147483647) fun v3 =>
  (if 1072243195 < v3 then
    (if v3 < 2146435072 then
      Option.bind (f_J11___ieee754_rem_pio2 x0 (fun _ => 0)) fun o6 =>
      lti (o6.1 &&& 3) fun v7 =>
      (if v7 = 0 then
        ltd (o6.2 0) fun v9 =>
        ltd (o6.2 1) fun v10 =>
        Option.bind (f_J7___kernel_sin v9 v10 1) fun o11 =>
        some (o11)
      else
      (if v7 = 1 then
        ltd (o6.2 0) fun v13 =>
        ltd (o6.2 1) fun v14 =>
        Option.bind (f_J14___kernel_cos v13 v14) fun o15 =>
        some (o15)
      else
      (if v7 = 2 then
        ltd (o6.2 0) fun v17 =>
        ltd (o6.2 1) fun v18 =>
        Option.bind (f_J7___kernel_sin v17 v18 1) fun o19 =>
        ltd (FP.dneg o19) fun v20 =>
        some (v20)
      else
      ltd (o6.2 0) fun v21 =>
      ltd (o6.2 1) fun v22 =>
      Option.bind (f_J14___kernel_cos v21 v22) fun o23 =>
      ltd (FP.dneg o23) fun v24 =>
      some (v24)
      )))
    else
      ck (dsubF x0 x0) fun v25 =>
      some (v25)
    )
  else
    Option.bind (f_J7___kernel_sin x0 0 0) fun o26 =>
    some (o26)
  )
theorem hd_J7_compute : Hd yJ7_compute 1 := by unfold Hd; decide +kernel
set_option maxHeartbeats 4000000 in
set_option maxRecDepth 100000 in
theorem m_J7_compute {l : Launch} {D : DD} (x0 : UInt64)  (r : UInt64) (h : f_J7_compute x0 = some r) : MT l D yJ7_compute cJ7_compute 7 (some .double) 7 1364 6 85 [.double x0] NoPre (pD (fun H b H' => b = r ∧ Off (fun _ => False) H H')) := by
  refine MT.start (by decide +kernel) (Nat.le_of_ble_eq_true rfl) ?_
  intro p e s m below meth c ls hC hS hp hl
  obtain ⟨hx, hb, hr, hlk, hml, hown, hts, hnm⟩ := id hC
  have hl : lv_has ls 7 [(0, .double x0)] := hl
  unfold f_J7_compute at h
  have hS0 := hS
  obtain ⟨A, eA⟩ : ∃ A : Array Value, A = [.double x0].toArray := ⟨_, rfl⟩
  rw [← eA] at hC hts ⊢
  obtain ⟨Q, eQ⟩ : ∃ Q : State → Prop, Q = MQ below (TQ D (pD (fun H b H' => b = r ∧ Off (fun _ => False) H H'))) A s 6 85 (fun q => dB D ≤ q) := ⟨_, rfl⟩
  have hF : Off (fun _ => False) s.heap s.heap := Off.rf
  show W p l e R_J7_compute s m A below meth c s.heap [] 0 0 _ _
  rw [← eQ]
  obtain ⟨H, eH⟩ : ∃ H : Heap, H = s.heap := ⟨_, rfl⟩
  obtain ⟨locs, eLc⟩ : ∃ L : List Loc, L = [] := ⟨_, rfl⟩
  rw [← eH, ← eLc]
  have hF : Off (fun _ => False) s.heap H := by rw [eH]; exact hF
  have hS : St D s H locs := by rw [eH, eLc]; exact hS
  refine lv_iconst (v := 2) hx hb dJ7_compute_0 (by decide) ?_
  refine r_newa hx hb hts hS (ty := .double) rfl q451 2 rfl (by decide) (by decide) (Nat.le_of_ble_eq_true rfl) (Nat.le_of_ble_eq_true rfl) dJ7_compute_1 (fun q1 H eq_q1 hS hE hq1 z_q1 hB_hq1 => ?_)
  have gq1 : s.heap.size ≤ q1 := by have := hF.1; omega
  have hF := hF.trans (hE.mono (fun _ _ z => z.elim))
  have hq1 : aD D q1 2 (fun _ => 0) H := hq1
  refine lv_astore_n (lv' := [(2, .ref q1), (0, .double x0)]) hx hb dJ7_compute_3 rfl hl (by decide) rfl (fun ls hl => ?_)
  refine lv_dconst0 hx hb dJ7_compute_4 ?_
  refine lv_dstore_n (lv' := [(3, .double 0), (2, .ref q1), (0, .double x0)]) hx hb dJ7_compute_5 rfl hl (by decide) rfl (fun ls hl => ?_)
  refine lv_dload_n hx hb dJ7_compute_6 rfl (lv_at hl 2 rfl) ?_
  obtain ⟨o2, eo2, h⟩ := bind_step h
  refine r_cp (r_runSN (rest := []) (As := [.double x0]) hC 1 (m_J8___HI x0  o2 eo2) q179 q180 q49 q181 hd_J8___HI rfl ⟨Nat.le_of_ble_eq_true rfl, Nat.le_of_ble_eq_true rfl⟩ hS trivial hl.1 rfl (Nat.le_of_ble_eq_true rfl) dJ7_compute_7 ⟨Nat.le_of_ble_eq_true rfl, Nat.le_of_ble_eq_true rfl⟩) ?_
  refine lv_istore (lv' := [(6, .int o2), (3, .double 0), (2, .ref q1), (0, .double x0)]) hx hb dJ7_compute_10 hl (by decide) rfl (fun ls hl => ?_)
  refine lv_iload hx hb dJ7_compute_12 (lv_at hl 0 rfl) ?_
  refine lv_ldc hx hb (v := 2147483647) hown (hts _ q185) dJ7_compute_14 ?_
  obtain ⟨v3, ev3, h⟩ := lti_step h
  refine r_iand hx hb ev3 dJ7_compute_16 ?_
  refine lv_istore (lv' := [(6, .int v3), (3, .double 0), (2, .ref q1), (0, .double x0)]) hx hb dJ7_compute_17 hl (by decide) rfl (fun ls hl => ?_)
  refine lv_iload hx hb dJ7_compute_19 (lv_at hl 0 rfl) ?_
  refine lv_ldc hx hb (v := 1072243195) hown (hts _ q186) dJ7_compute_21 ?_
  refine lv_icmp_gt (tgt := 33) hx hb dJ7_compute_23 (by decide) (fun c4 => ?_) (fun c4 => ?_)
  · have h := it_pos h c4
    refine lv_iload hx hb dJ7_compute_33 (lv_at hl 0 rfl) ?_
    refine lv_ldc hx hb (v := 2146435072) hown (hts _ q198) dJ7_compute_35 ?_
    refine lv_icmp_lt (tgt := 44) hx hb dJ7_compute_37 (by decide) (fun c5 => ?_) (fun c5 => ?_)
    · have h := it_pos h c5
      refine lv_dload_n hx hb dJ7_compute_44 rfl (lv_at hl 3 rfl) ?_
      refine lv_aload_n hx hb dJ7_compute_45 rfl (lv_at hl 2 rfl) ?_
      obtain ⟨o6, eo6, h⟩ := bind_step h
      refine r_ci (r_runS (rest := []) (As := [.double x0, .ref q1]) hC 2 (m_J11___ieee754_rem_pio2 x0 q1 (fun _ => 0) o6 eo6) q199 q200 q52 q201 hd_J11___ieee754_rem_pio2 rfl ⟨Nat.le_of_ble_eq_true rfl, Nat.le_of_ble_eq_true rfl⟩ hS ⟨hq1, hB_hq1⟩ hl.1 rfl (Nat.le_of_ble_eq_true rfl) dJ7_compute_46 ⟨Nat.le_of_ble_eq_true rfl, Nat.le_of_ble_eq_true rfl⟩) hS (fun b H locs hp hS hz => ?_)
      obtain ⟨rfl, hq1, hO⟩ := hp
      have hF := hF.fresh hO (fun a ha z => absurd (z ▸ ha) (Nat.not_lt.mpr gq1))
      refine lv_istore (lv' := [(5, .int o6.1), (6, .int v3), (3, .double 0), (2, .ref q1), (0, .double x0)]) hx hb dJ7_compute_49 hl (by decide) rfl (fun ls hl => ?_)
      refine lv_iload hx hb dJ7_compute_51 (lv_at hl 0 rfl) ?_
      refine lv_iconst (v := 3) hx hb dJ7_compute_53 (by decide) ?_
      obtain ⟨v7, ev7, h⟩ := lti_step h
      refine r_iand hx hb ev7 dJ7_compute_54 ?_
      by_cases c8 : v7 = 0
      · have h := it_pos h c8
        refine r_tabIn (z := 0) (off := 25) (tgt := 80) hx hb c8 dJ7_compute_55 (by decide) (by decide) (by decide) (by decide) ?_
        refine lv_aload_n hx hb dJ7_compute_80 rfl (lv_at hl 3 rfl) ?_
        refine lv_iconst (v := 0) hx hb dJ7_compute_81 (by decide) ?_
        refine r_dald hx hb hS hq1 0 ⟨rfl, by decide, by decide⟩ dJ7_compute_82 ?_
        obtain ⟨v9, ev9, h⟩ := ltd_step h
        refine r_nmD ev9 ?_
        refine lv_aload_n hx hb dJ7_compute_83 rfl (lv_at hl 3 rfl) ?_
        refine lv_iconst (v := 1) hx hb dJ7_compute_84 (by decide) ?_
        refine r_dald hx hb hS hq1 1 ⟨rfl, by decide, by decide⟩ dJ7_compute_85 ?_
        obtain ⟨v10, ev10, h⟩ := ltd_step h
        refine r_nmD ev10 ?_
        refine lv_iconst (v := 1) hx hb dJ7_compute_86 (by decide) ?_
        obtain ⟨o11, eo11, h⟩ := bind_step h
        refine r_cp (r_runS (rest := []) (As := [.double v9, .double v10, .int 1]) hC 3 (m_J7___kernel_sin v9 v10 1  o11 eo11) q187 q188 q48 q189 hd_J7___kernel_sin rfl ⟨Nat.le_of_ble_eq_true rfl, Nat.le_of_ble_eq_true rfl⟩ hS trivial hl.1 rfl (Nat.le_of_ble_eq_true rfl) dJ7_compute_87 ⟨Nat.le_of_ble_eq_true rfl, Nat.le_of_ble_eq_true rfl⟩) ?_
        obtain rfl := Option.some.inj h
        rw [eQ]
        exact r_dret hx hb hr hlk hS (Nat.le_of_ble_eq_true rfl) (Nat.le_of_ble_eq_true rfl) dJ7_compute_90 ⟨_, rfl, rfl, hF⟩
      have h := it_neg h c8
      by_cases c12 : v7 = 1
      · have h := it_pos h c12
        refine r_tabIn (z := 1) (off := 36) (tgt := 91) hx hb c12 dJ7_compute_55 (by decide) (by decide) (by decide) (by decide) ?_
        refine lv_aload_n hx hb dJ7_compute_91 rfl (lv_at hl 3 rfl) ?_
        refine lv_iconst (v := 0) hx hb dJ7_compute_92 (by decide) ?_
        refine r_dald hx hb hS hq1 0 ⟨rfl, by decide, by decide⟩ dJ7_compute_93 ?_
        obtain ⟨v13, ev13, h⟩ := ltd_step h
        refine r_nmD ev13 ?_
        refine lv_aload_n hx hb dJ7_compute_94 rfl (lv_at hl 3 rfl) ?_
        refine lv_iconst (v := 1) hx hb dJ7_compute_95 (by decide) ?_
        refine r_dald hx hb hS hq1 1 ⟨rfl, by decide, by decide⟩ dJ7_compute_96 ?_
        obtain ⟨v14, ev14, h⟩ := ltd_step h
        refine r_nmD ev14 ?_
        obtain ⟨o15, eo15, h⟩ := bind_step h
        refine r_cp (r_runS (rest := []) (As := [.double v13, .double v14]) hC 2 (m_J14___kernel_cos v13 v14  o15 eo15) q298 q299 q55 q300 hd_J14___kernel_cos rfl ⟨Nat.le_of_ble_eq_true rfl, Nat.le_of_ble_eq_true rfl⟩ hS trivial hl.1 rfl (Nat.le_of_ble_eq_true rfl) dJ7_compute_97 ⟨Nat.le_of_ble_eq_true rfl, Nat.le_of_ble_eq_true rfl⟩) ?_
        obtain rfl := Option.some.inj h
        rw [eQ]
        exact r_dret hx hb hr hlk hS (Nat.le_of_ble_eq_true rfl) (Nat.le_of_ble_eq_true rfl) dJ7_compute_100 ⟨_, rfl, rfl, hF⟩
      have h := it_neg h c12
      by_cases c16 : v7 = 2
      · have h := it_pos h c16
        refine r_tabIn (z := 2) (off := 46) (tgt := 101) hx hb c16 dJ7_compute_55 (by decide) (by decide) (by decide) (by decide) ?_
        refine lv_aload_n hx hb dJ7_compute_101 rfl (lv_at hl 3 rfl) ?_
        refine lv_iconst (v := 0) hx hb dJ7_compute_102 (by decide) ?_
        refine r_dald hx hb hS hq1 0 ⟨rfl, by decide, by decide⟩ dJ7_compute_103 ?_
        obtain ⟨v17, ev17, h⟩ := ltd_step h
        refine r_nmD ev17 ?_
        refine lv_aload_n hx hb dJ7_compute_104 rfl (lv_at hl 3 rfl) ?_
        refine lv_iconst (v := 1) hx hb dJ7_compute_105 (by decide) ?_
        refine r_dald hx hb hS hq1 1 ⟨rfl, by decide, by decide⟩ dJ7_compute_106 ?_
        obtain ⟨v18, ev18, h⟩ := ltd_step h
        refine r_nmD ev18 ?_
        refine lv_iconst (v := 1) hx hb dJ7_compute_107 (by decide) ?_
        obtain ⟨o19, eo19, h⟩ := bind_step h
        refine r_cp (r_runS (rest := []) (As := [.double v17, .double v18, .int 1]) hC 3 (m_J7___kernel_sin v17 v18 1  o19 eo19) q187 q188 q48 q189 hd_J7___kernel_sin rfl ⟨Nat.le_of_ble_eq_true rfl, Nat.le_of_ble_eq_true rfl⟩ hS trivial hl.1 rfl (Nat.le_of_ble_eq_true rfl) dJ7_compute_108 ⟨Nat.le_of_ble_eq_true rfl, Nat.le_of_ble_eq_true rfl⟩) ?_
        obtain ⟨v20, ev20, h⟩ := ltd_step h
        refine r_dneg hx hb ev20 dJ7_compute_111 ?_
        obtain rfl := Option.some.inj h
        rw [eQ]
        exact r_dret hx hb hr hlk hS (Nat.le_of_ble_eq_true rfl) (Nat.le_of_ble_eq_true rfl) dJ7_compute_112 ⟨_, rfl, rfl, hF⟩
      have h := it_neg h c16
      refine lv_tableOut (tgt := 113) hx hb dJ7_compute_55 (tab_out3 c8 c12 c16) (by decide) ?_
      refine lv_aload_n hx hb dJ7_compute_113 rfl (lv_at hl 3 rfl) ?_
      refine lv_iconst (v := 0) hx hb dJ7_compute_114 (by decide) ?_
      refine r_dald hx hb hS hq1 0 ⟨rfl, by decide, by decide⟩ dJ7_compute_115 ?_
      obtain ⟨v21, ev21, h⟩ := ltd_step h
      refine r_nmD ev21 ?_
      refine lv_aload_n hx hb dJ7_compute_116 rfl (lv_at hl 3 rfl) ?_
      refine lv_iconst (v := 1) hx hb dJ7_compute_117 (by decide) ?_
      refine r_dald hx hb hS hq1 1 ⟨rfl, by decide, by decide⟩ dJ7_compute_118 ?_
      obtain ⟨v22, ev22, h⟩ := ltd_step h
      refine r_nmD ev22 ?_
      obtain ⟨o23, eo23, h⟩ := bind_step h
      refine r_cp (r_runS (rest := []) (As := [.double v21, .double v22]) hC 2 (m_J14___kernel_cos v21 v22  o23 eo23) q298 q299 q55 q300 hd_J14___kernel_cos rfl ⟨Nat.le_of_ble_eq_true rfl, Nat.le_of_ble_eq_true rfl⟩ hS trivial hl.1 rfl (Nat.le_of_ble_eq_true rfl) dJ7_compute_119 ⟨Nat.le_of_ble_eq_true rfl, Nat.le_of_ble_eq_true rfl⟩) ?_
      obtain ⟨v24, ev24, h⟩ := ltd_step h
      refine r_dneg hx hb ev24 dJ7_compute_122 ?_
      obtain rfl := Option.some.inj h
      rw [eQ]
      exact r_dret hx hb hr hlk hS (Nat.le_of_ble_eq_true rfl) (Nat.le_of_ble_eq_true rfl) dJ7_compute_123 ⟨_, rfl, rfl, hF⟩
    · have h := it_neg h c5
      refine lv_dload_n hx hb dJ7_compute_40 rfl (lv_at hl 3 rfl) ?_
      refine lv_dload_n hx hb dJ7_compute_41 rfl (lv_at hl 3 rfl) ?_
      obtain ⟨v25, ev25, nv25, h⟩ := ck_step h
      refine r_dsub hx hb ev25 nv25 dJ7_compute_42 ?_
      obtain rfl := Option.some.inj h
      rw [eQ]
      exact r_dret hx hb hr hlk hS (Nat.le_of_ble_eq_true rfl) (Nat.le_of_ble_eq_true rfl) dJ7_compute_43 ⟨_, rfl, rfl, hF⟩
  · have h := it_neg h c4
    refine lv_dload_n hx hb dJ7_compute_26 rfl (lv_at hl 3 rfl) ?_
    refine lv_dload_n hx hb dJ7_compute_27 rfl (lv_at hl 1 rfl) ?_
    refine lv_iconst (v := 0) hx hb dJ7_compute_28 (by decide) ?_
    obtain ⟨o26, eo26, h⟩ := bind_step h
    refine r_cp (r_runS (rest := []) (As := [.double x0, .double 0, .int 0]) hC 3 (m_J7___kernel_sin x0 0 0  o26 eo26) q187 q188 q48 q189 hd_J7___kernel_sin rfl ⟨Nat.le_of_ble_eq_true rfl, Nat.le_of_ble_eq_true rfl⟩ hS trivial hl.1 rfl (Nat.le_of_ble_eq_true rfl) dJ7_compute_29 ⟨Nat.le_of_ble_eq_true rfl, Nat.le_of_ble_eq_true rfl⟩) ?_
    obtain rfl := Option.some.inj h
    rw [eQ]
    exact r_dret hx hb hr hlk hS (Nat.le_of_ble_eq_true rfl) (Nat.le_of_ble_eq_true rfl) dJ7_compute_32 ⟨_, rfl, rfl, hF⟩

abbrev R_J14_compute : Room := { frames := 7, cells := 6, slots := 85, locals := 1364 }
noncomputable def f_J14_compute (x0 : UInt64) : Option (UInt64) :=
  Option.bind (f_J8___HI x0) fun o2 =>
  lti (o2 &&& 2147483647) fun v3 =>
  (if 1072243195 < v3 then
    (if v3 < 2146435072 then
      Option.bind (f_J11___ieee754_rem_pio2 x0 (fun _ => 0)) fun o6 =>
      lti (o6.1 &&& 3) fun v7 =>
      (if v7 = 0 then
        ltd (o6.2 0) fun v9 =>
        ltd (o6.2 1) fun v10 =>
        Option.bind (f_J14___kernel_cos v9 v10) fun o11 =>
        some (o11)
      else
      (if v7 = 1 then
        ltd (o6.2 0) fun v13 =>
        ltd (o6.2 1) fun v14 =>
        Option.bind (f_J7___kernel_sin v13 v14 1) fun o15 =>
        ltd (FP.dneg o15) fun v16 =>
        some (v16)
      else
      (if v7 = 2 then
        ltd (o6.2 0) fun v18 =>
        ltd (o6.2 1) fun v19 =>
        Option.bind (f_J14___kernel_cos v18 v19) fun o20 =>
        ltd (FP.dneg o20) fun v21 =>
        some (v21)
      else
      ltd (o6.2 0) fun v22 =>
      ltd (o6.2 1) fun v23 =>
      Option.bind (f_J7___kernel_sin v22 v23 1) fun o24 =>
      some (o24)
      )))
    else
      ck (dsubF x0 x0) fun v25 =>
      some (v25)
    )
  else
    Option.bind (f_J14___kernel_cos x0 0) fun o26 =>
    some (o26)
  )
theorem hd_J14_compute : Hd yJ14_compute 1 := by unfold Hd; decide +kernel
set_option maxHeartbeats 4000000 in
set_option maxRecDepth 100000 in
theorem m_J14_compute {l : Launch} {D : DD} (x0 : UInt64)  (r : UInt64) (h : f_J14_compute x0 = some r) : MT l D yJ14_compute cJ14_compute 7 (some .double) 7 1364 6 85 [.double x0] NoPre (pD (fun H b H' => b = r ∧ Off (fun _ => False) H H')) := by
  refine MT.start (by decide +kernel) (Nat.le_of_ble_eq_true rfl) ?_
  intro p e s m below meth c ls hC hS hp hl
  obtain ⟨hx, hb, hr, hlk, hml, hown, hts, hnm⟩ := id hC
  have hl : lv_has ls 7 [(0, .double x0)] := hl
  unfold f_J14_compute at h
  have hS0 := hS
  obtain ⟨A, eA⟩ : ∃ A : Array Value, A = [.double x0].toArray := ⟨_, rfl⟩
  rw [← eA] at hC hts ⊢
  obtain ⟨Q, eQ⟩ : ∃ Q : State → Prop, Q = MQ below (TQ D (pD (fun H b H' => b = r ∧ Off (fun _ => False) H H'))) A s 6 85 (fun q => dB D ≤ q) := ⟨_, rfl⟩
  have hF : Off (fun _ => False) s.heap s.heap := Off.rf
  show W p l e R_J14_compute s m A below meth c s.heap [] 0 0 _ _
  rw [← eQ]
  obtain ⟨H, eH⟩ : ∃ H : Heap, H = s.heap := ⟨_, rfl⟩
  obtain ⟨locs, eLc⟩ : ∃ L : List Loc, L = [] := ⟨_, rfl⟩
  rw [← eH, ← eLc]
  have hF : Off (fun _ => False) s.heap H := by rw [eH]; exact hF
  have hS : St D s H locs := by rw [eH, eLc]; exact hS
  refine lv_iconst (v := 2) hx hb dJ14_compute_0 (by decide) ?_
  refine r_newa hx hb hts hS (ty := .double) rfl q451 2 rfl (by decide) (by decide) (Nat.le_of_ble_eq_true rfl) (Nat.le_of_ble_eq_true rfl) dJ14_compute_1 (fun q1 H eq_q1 hS hE hq1 z_q1 hB_hq1 => ?_)
  have gq1 : s.heap.size ≤ q1 := by have := hF.1; omega
  have hF := hF.trans (hE.mono (fun _ _ z => z.elim))
  have hq1 : aD D q1 2 (fun _ => 0) H := hq1
  refine lv_astore_n (lv' := [(2, .ref q1), (0, .double x0)]) hx hb dJ14_compute_3 rfl hl (by decide) rfl (fun ls hl => ?_)
  refine lv_dconst0 hx hb dJ14_compute_4 ?_
  refine lv_dstore_n (lv' := [(3, .double 0), (2, .ref q1), (0, .double x0)]) hx hb dJ14_compute_5 rfl hl (by decide) rfl (fun ls hl => ?_)
  refine lv_dload_n hx hb dJ14_compute_6 rfl (lv_at hl 2 rfl) ?_
  obtain ⟨o2, eo2, h⟩ := bind_step h
  refine r_cp (r_runSN (rest := []) (As := [.double x0]) hC 1 (m_J8___HI x0  o2 eo2) q301 q180 q49 q181 hd_J8___HI rfl ⟨Nat.le_of_ble_eq_true rfl, Nat.le_of_ble_eq_true rfl⟩ hS trivial hl.1 rfl (Nat.le_of_ble_eq_true rfl) dJ14_compute_7 ⟨Nat.le_of_ble_eq_true rfl, Nat.le_of_ble_eq_true rfl⟩) ?_
  refine lv_istore (lv' := [(6, .int o2), (3, .double 0), (2, .ref q1), (0, .double x0)]) hx hb dJ14_compute_10 hl (by decide) rfl (fun ls hl => ?_)
  refine lv_iload hx hb dJ14_compute_12 (lv_at hl 0 rfl) ?_
  refine lv_ldc hx hb (v := 2147483647) hown (hts _ q302) dJ14_compute_14 ?_
  obtain ⟨v3, ev3, h⟩ := lti_step h
  refine r_iand hx hb ev3 dJ14_compute_16 ?_
  refine lv_istore (lv' := [(6, .int v3), (3, .double 0), (2, .ref q1), (0, .double x0)]) hx hb dJ14_compute_17 hl (by decide) rfl (fun ls hl => ?_)
  refine lv_iload hx hb dJ14_compute_19 (lv_at hl 0 rfl) ?_
  refine lv_ldc hx hb (v := 1072243195) hown (hts _ q324) dJ14_compute_21 ?_
  refine lv_icmp_gt (tgt := 32) hx hb dJ14_compute_23 (by decide) (fun c4 => ?_) (fun c4 => ?_)
  · have h := it_pos h c4
    refine lv_iload hx hb dJ14_compute_32 (lv_at hl 0 rfl) ?_
    refine lv_ldc hx hb (v := 2146435072) hown (hts _ q326) dJ14_compute_34 ?_
    refine lv_icmp_lt (tgt := 43) hx hb dJ14_compute_36 (by decide) (fun c5 => ?_) (fun c5 => ?_)
    · have h := it_pos h c5
      refine lv_dload_n hx hb dJ14_compute_43 rfl (lv_at hl 3 rfl) ?_
      refine lv_aload_n hx hb dJ14_compute_44 rfl (lv_at hl 2 rfl) ?_
      obtain ⟨o6, eo6, h⟩ := bind_step h
      refine r_ci (r_runS (rest := []) (As := [.double x0, .ref q1]) hC 2 (m_J11___ieee754_rem_pio2 x0 q1 (fun _ => 0) o6 eo6) q327 q200 q52 q201 hd_J11___ieee754_rem_pio2 rfl ⟨Nat.le_of_ble_eq_true rfl, Nat.le_of_ble_eq_true rfl⟩ hS ⟨hq1, hB_hq1⟩ hl.1 rfl (Nat.le_of_ble_eq_true rfl) dJ14_compute_45 ⟨Nat.le_of_ble_eq_true rfl, Nat.le_of_ble_eq_true rfl⟩) hS (fun b H locs hp hS hz => ?_)
      obtain ⟨rfl, hq1, hO⟩ := hp
      have hF := hF.fresh hO (fun a ha z => absurd (z ▸ ha) (Nat.not_lt.mpr gq1))
      refine lv_istore (lv' := [(5, .int o6.1), (6, .int v3), (3, .double 0), (2, .ref q1), (0, .double x0)]) hx hb dJ14_compute_48 hl (by decide) rfl (fun ls hl => ?_)
      refine lv_iload hx hb dJ14_compute_50 (lv_at hl 0 rfl) ?_
      refine lv_iconst (v := 3) hx hb dJ14_compute_52 (by decide) ?_
      obtain ⟨v7, ev7, h⟩ := lti_step h
      refine r_iand hx hb ev7 dJ14_compute_53 ?_
      by_cases c8 : v7 = 0
      · have h := it_pos h c8
        refine r_tabIn (z := 0) (off := 26) (tgt := 80) hx hb c8 dJ14_compute_54 (by decide) (by decide) (by decide) (by decide) ?_
        refine lv_aload_n hx hb dJ14_compute_80 rfl (lv_at hl 3 rfl) ?_
        refine lv_iconst (v := 0) hx hb dJ14_compute_81 (by decide) ?_
        refine r_dald hx hb hS hq1 0 ⟨rfl, by decide, by decide⟩ dJ14_compute_82 ?_
        obtain ⟨v9, ev9, h⟩ := ltd_step h
        refine r_nmD ev9 ?_
        refine lv_aload_n hx hb dJ14_compute_83 rfl (lv_at hl 3 rfl) ?_
        refine lv_iconst (v := 1) hx hb dJ14_compute_84 (by decide) ?_
        refine r_dald hx hb hS hq1 1 ⟨rfl, by decide, by decide⟩ dJ14_compute_85 ?_
        obtain ⟨v10, ev10, h⟩ := ltd_step h
        refine r_nmD ev10 ?_
        obtain ⟨o11, eo11, h⟩ := bind_step h
        refine r_cp (r_runS (rest := []) (As := [.double v9, .double v10]) hC 2 (m_J14___kernel_cos v9 v10  o11 eo11) q325 q299 q55 q300 hd_J14___kernel_cos rfl ⟨Nat.le_of_ble_eq_true rfl, Nat.le_of_ble_eq_true rfl⟩ hS trivial hl.1 rfl (Nat.le_of_ble_eq_true rfl) dJ14_compute_86 ⟨Nat.le_of_ble_eq_true rfl, Nat.le_of_ble_eq_true rfl⟩) ?_
        obtain rfl := Option.some.inj h
        rw [eQ]
        exact r_dret hx hb hr hlk hS (Nat.le_of_ble_eq_true rfl) (Nat.le_of_ble_eq_true rfl) dJ14_compute_89 ⟨_, rfl, rfl, hF⟩
      have h := it_neg h c8
      by_cases c12 : v7 = 1
      · have h := it_pos h c12
        refine r_tabIn (z := 1) (off := 36) (tgt := 90) hx hb c12 dJ14_compute_54 (by decide) (by decide) (by decide) (by decide) ?_
        refine lv_aload_n hx hb dJ14_compute_90 rfl (lv_at hl 3 rfl) ?_
        refine lv_iconst (v := 0) hx hb dJ14_compute_91 (by decide) ?_
        refine r_dald hx hb hS hq1 0 ⟨rfl, by decide, by decide⟩ dJ14_compute_92 ?_
        obtain ⟨v13, ev13, h⟩ := ltd_step h
        refine r_nmD ev13 ?_
        refine lv_aload_n hx hb dJ14_compute_93 rfl (lv_at hl 3 rfl) ?_
        refine lv_iconst (v := 1) hx hb dJ14_compute_94 (by decide) ?_
        refine r_dald hx hb hS hq1 1 ⟨rfl, by decide, by decide⟩ dJ14_compute_95 ?_
        obtain ⟨v14, ev14, h⟩ := ltd_step h
        refine r_nmD ev14 ?_
        refine lv_iconst (v := 1) hx hb dJ14_compute_96 (by decide) ?_
        obtain ⟨o15, eo15, h⟩ := bind_step h
        refine r_cp (r_runS (rest := []) (As := [.double v13, .double v14, .int 1]) hC 3 (m_J7___kernel_sin v13 v14 1  o15 eo15) q328 q188 q48 q189 hd_J7___kernel_sin rfl ⟨Nat.le_of_ble_eq_true rfl, Nat.le_of_ble_eq_true rfl⟩ hS trivial hl.1 rfl (Nat.le_of_ble_eq_true rfl) dJ14_compute_97 ⟨Nat.le_of_ble_eq_true rfl, Nat.le_of_ble_eq_true rfl⟩) ?_
        obtain ⟨v16, ev16, h⟩ := ltd_step h
        refine r_dneg hx hb ev16 dJ14_compute_100 ?_
        obtain rfl := Option.some.inj h
        rw [eQ]
        exact r_dret hx hb hr hlk hS (Nat.le_of_ble_eq_true rfl) (Nat.le_of_ble_eq_true rfl) dJ14_compute_101 ⟨_, rfl, rfl, hF⟩
      have h := it_neg h c12
      by_cases c17 : v7 = 2
      · have h := it_pos h c17
        refine r_tabIn (z := 2) (off := 48) (tgt := 102) hx hb c17 dJ14_compute_54 (by decide) (by decide) (by decide) (by decide) ?_
        refine lv_aload_n hx hb dJ14_compute_102 rfl (lv_at hl 3 rfl) ?_
        refine lv_iconst (v := 0) hx hb dJ14_compute_103 (by decide) ?_
        refine r_dald hx hb hS hq1 0 ⟨rfl, by decide, by decide⟩ dJ14_compute_104 ?_
        obtain ⟨v18, ev18, h⟩ := ltd_step h
        refine r_nmD ev18 ?_
        refine lv_aload_n hx hb dJ14_compute_105 rfl (lv_at hl 3 rfl) ?_
        refine lv_iconst (v := 1) hx hb dJ14_compute_106 (by decide) ?_
        refine r_dald hx hb hS hq1 1 ⟨rfl, by decide, by decide⟩ dJ14_compute_107 ?_
        obtain ⟨v19, ev19, h⟩ := ltd_step h
        refine r_nmD ev19 ?_
        obtain ⟨o20, eo20, h⟩ := bind_step h
        refine r_cp (r_runS (rest := []) (As := [.double v18, .double v19]) hC 2 (m_J14___kernel_cos v18 v19  o20 eo20) q325 q299 q55 q300 hd_J14___kernel_cos rfl ⟨Nat.le_of_ble_eq_true rfl, Nat.le_of_ble_eq_true rfl⟩ hS trivial hl.1 rfl (Nat.le_of_ble_eq_true rfl) dJ14_compute_108 ⟨Nat.le_of_ble_eq_true rfl, Nat.le_of_ble_eq_true rfl⟩) ?_
        obtain ⟨v21, ev21, h⟩ := ltd_step h
        refine r_dneg hx hb ev21 dJ14_compute_111 ?_
        obtain rfl := Option.some.inj h
        rw [eQ]
        exact r_dret hx hb hr hlk hS (Nat.le_of_ble_eq_true rfl) (Nat.le_of_ble_eq_true rfl) dJ14_compute_112 ⟨_, rfl, rfl, hF⟩
      have h := it_neg h c17
      refine lv_tableOut (tgt := 113) hx hb dJ14_compute_54 (tab_out3 c8 c12 c17) (by decide) ?_
      refine lv_aload_n hx hb dJ14_compute_113 rfl (lv_at hl 3 rfl) ?_
      refine lv_iconst (v := 0) hx hb dJ14_compute_114 (by decide) ?_
      refine r_dald hx hb hS hq1 0 ⟨rfl, by decide, by decide⟩ dJ14_compute_115 ?_
      obtain ⟨v22, ev22, h⟩ := ltd_step h
      refine r_nmD ev22 ?_
      refine lv_aload_n hx hb dJ14_compute_116 rfl (lv_at hl 3 rfl) ?_
      refine lv_iconst (v := 1) hx hb dJ14_compute_117 (by decide) ?_
      refine r_dald hx hb hS hq1 1 ⟨rfl, by decide, by decide⟩ dJ14_compute_118 ?_
      obtain ⟨v23, ev23, h⟩ := ltd_step h
      refine r_nmD ev23 ?_
      refine lv_iconst (v := 1) hx hb dJ14_compute_119 (by decide) ?_
      obtain ⟨o24, eo24, h⟩ := bind_step h
      refine r_cp (r_runS (rest := []) (As := [.double v22, .double v23, .int 1]) hC 3 (m_J7___kernel_sin v22 v23 1  o24 eo24) q328 q188 q48 q189 hd_J7___kernel_sin rfl ⟨Nat.le_of_ble_eq_true rfl, Nat.le_of_ble_eq_true rfl⟩ hS trivial hl.1 rfl (Nat.le_of_ble_eq_true rfl) dJ14_compute_120 ⟨Nat.le_of_ble_eq_true rfl, Nat.le_of_ble_eq_true rfl⟩) ?_
      obtain rfl := Option.some.inj h
      rw [eQ]
      exact r_dret hx hb hr hlk hS (Nat.le_of_ble_eq_true rfl) (Nat.le_of_ble_eq_true rfl) dJ14_compute_123 ⟨_, rfl, rfl, hF⟩
    · have h := it_neg h c5
      refine lv_dload_n hx hb dJ14_compute_39 rfl (lv_at hl 3 rfl) ?_
      refine lv_dload_n hx hb dJ14_compute_40 rfl (lv_at hl 3 rfl) ?_
      obtain ⟨v25, ev25, nv25, h⟩ := ck_step h
      refine r_dsub hx hb ev25 nv25 dJ14_compute_41 ?_
      obtain rfl := Option.some.inj h
      rw [eQ]
      exact r_dret hx hb hr hlk hS (Nat.le_of_ble_eq_true rfl) (Nat.le_of_ble_eq_true rfl) dJ14_compute_42 ⟨_, rfl, rfl, hF⟩
  · have h := it_neg h c4
    refine lv_dload_n hx hb dJ14_compute_26 rfl (lv_at hl 3 rfl) ?_
    refine lv_dload_n hx hb dJ14_compute_27 rfl (lv_at hl 1 rfl) ?_
    obtain ⟨o26, eo26, h⟩ := bind_step h
    refine r_cp (r_runS (rest := []) (As := [.double x0, .double 0]) hC 2 (m_J14___kernel_cos x0 0  o26 eo26) q325 q299 q55 q300 hd_J14___kernel_cos rfl ⟨Nat.le_of_ble_eq_true rfl, Nat.le_of_ble_eq_true rfl⟩ hS trivial hl.1 rfl (Nat.le_of_ble_eq_true rfl) dJ14_compute_28 ⟨Nat.le_of_ble_eq_true rfl, Nat.le_of_ble_eq_true rfl⟩) ?_
    obtain rfl := Option.some.inj h
    rw [eQ]
    exact r_dret hx hb hr hlk hS (Nat.le_of_ble_eq_true rfl) (Nat.le_of_ble_eq_true rfl) dJ14_compute_31 ⟨_, rfl, rfl, hF⟩

abbrev R_J15_compute : Room := { frames := 7, cells := 6, slots := 85, locals := 1364 }
noncomputable def f_J15_compute (x0 : UInt64) : Option (UInt64) :=
  Option.bind (f_J8___HI x0) fun o2 =>
  lti (o2 &&& 2147483647) fun v3 =>
  (if 1072243195 < v3 then
    (if v3 < 2146435072 then
      Option.bind (f_J11___ieee754_rem_pio2 x0 (fun _ => 0)) fun o6 =>
      ltd (o6.2 0) fun v7 =>
      ltd (o6.2 1) fun v8 =>
      lti (o6.1 &&& 1) fun v9 =>
      lti (v9 <<< (1 &&& 31)) fun v10 =>
      lti (1 - v10) fun v11 =>
      Option.bind (f_J15___kernel_tan v7 v8 v11) fun o12 =>
      some (o12)
    else
      ck (dsubF x0 x0) fun v13 =>
      some (v13)
    )
  else
    Option.bind (f_J15___kernel_tan x0 0 1) fun o14 =>
    some (o14)
  )
theorem hd_J15_compute : Hd yJ15_compute 1 := by unfold Hd; decide +kernel
set_option maxHeartbeats 4000000 in
set_option maxRecDepth 100000 in
theorem m_J15_compute {l : Launch} {D : DD} (x0 : UInt64)  (r : UInt64) (h : f_J15_compute x0 = some r) : MT l D yJ15_compute cJ15_compute 7 (some .double) 7 1364 6 85 [.double x0] NoPre (pD (fun H b H' => b = r ∧ Off (fun _ => False) H H')) := by
  refine MT.start (by decide +kernel) (Nat.le_of_ble_eq_true rfl) ?_
  intro p e s m below meth c ls hC hS hp hl
  obtain ⟨hx, hb, hr, hlk, hml, hown, hts, hnm⟩ := id hC
  have hl : lv_has ls 7 [(0, .double x0)] := hl
  unfold f_J15_compute at h
  have hS0 := hS
  obtain ⟨A, eA⟩ : ∃ A : Array Value, A = [.double x0].toArray := ⟨_, rfl⟩
  rw [← eA] at hC hts ⊢
  obtain ⟨Q, eQ⟩ : ∃ Q : State → Prop, Q = MQ below (TQ D (pD (fun H b H' => b = r ∧ Off (fun _ => False) H H'))) A s 6 85 (fun q => dB D ≤ q) := ⟨_, rfl⟩
  have hF : Off (fun _ => False) s.heap s.heap := Off.rf
  show W p l e R_J15_compute s m A below meth c s.heap [] 0 0 _ _
  rw [← eQ]
  obtain ⟨H, eH⟩ : ∃ H : Heap, H = s.heap := ⟨_, rfl⟩
  obtain ⟨locs, eLc⟩ : ∃ L : List Loc, L = [] := ⟨_, rfl⟩
  rw [← eH, ← eLc]
  have hF : Off (fun _ => False) s.heap H := by rw [eH]; exact hF
  have hS : St D s H locs := by rw [eH, eLc]; exact hS
  refine lv_iconst (v := 2) hx hb dJ15_compute_0 (by decide) ?_
  refine r_newa hx hb hts hS (ty := .double) rfl q451 2 rfl (by decide) (by decide) (Nat.le_of_ble_eq_true rfl) (Nat.le_of_ble_eq_true rfl) dJ15_compute_1 (fun q1 H eq_q1 hS hE hq1 z_q1 hB_hq1 => ?_)
  have gq1 : s.heap.size ≤ q1 := by have := hF.1; omega
  have hF := hF.trans (hE.mono (fun _ _ z => z.elim))
  have hq1 : aD D q1 2 (fun _ => 0) H := hq1
  refine lv_astore_n (lv' := [(2, .ref q1), (0, .double x0)]) hx hb dJ15_compute_3 rfl hl (by decide) rfl (fun ls hl => ?_)
  refine lv_dconst0 hx hb dJ15_compute_4 ?_
  refine lv_dstore_n (lv' := [(3, .double 0), (2, .ref q1), (0, .double x0)]) hx hb dJ15_compute_5 rfl hl (by decide) rfl (fun ls hl => ?_)
  refine lv_dload_n hx hb dJ15_compute_6 rfl (lv_at hl 2 rfl) ?_
  obtain ⟨o2, eo2, h⟩ := bind_step h
  refine r_cp (r_runSN (rest := []) (As := [.double x0]) hC 1 (m_J8___HI x0  o2 eo2) q335 q180 q49 q181 hd_J8___HI rfl ⟨Nat.le_of_ble_eq_true rfl, Nat.le_of_ble_eq_true rfl⟩ hS trivial hl.1 rfl (Nat.le_of_ble_eq_true rfl) dJ15_compute_7 ⟨Nat.le_of_ble_eq_true rfl, Nat.le_of_ble_eq_true rfl⟩) ?_
  refine lv_istore (lv' := [(6, .int o2), (3, .double 0), (2, .ref q1), (0, .double x0)]) hx hb dJ15_compute_10 hl (by decide) rfl (fun ls hl => ?_)
  refine lv_iload hx hb dJ15_compute_12 (lv_at hl 0 rfl) ?_
  refine lv_ldc hx hb (v := 2147483647) hown (hts _ q336) dJ15_compute_14 ?_
  obtain ⟨v3, ev3, h⟩ := lti_step h
  refine r_iand hx hb ev3 dJ15_compute_16 ?_
  refine lv_istore (lv' := [(6, .int v3), (3, .double 0), (2, .ref q1), (0, .double x0)]) hx hb dJ15_compute_17 hl (by decide) rfl (fun ls hl => ?_)
  refine lv_iload hx hb dJ15_compute_19 (lv_at hl 0 rfl) ?_
  refine lv_ldc hx hb (v := 1072243195) hown (hts _ q337) dJ15_compute_21 ?_
  refine lv_icmp_gt (tgt := 33) hx hb dJ15_compute_23 (by decide) (fun c4 => ?_) (fun c4 => ?_)
  · have h := it_pos h c4
    refine lv_iload hx hb dJ15_compute_33 (lv_at hl 0 rfl) ?_
    refine lv_ldc hx hb (v := 2146435072) hown (hts _ q352) dJ15_compute_35 ?_
    refine lv_icmp_lt (tgt := 44) hx hb dJ15_compute_37 (by decide) (fun c5 => ?_) (fun c5 => ?_)
    · have h := it_pos h c5
      refine lv_dload_n hx hb dJ15_compute_44 rfl (lv_at hl 3 rfl) ?_
      refine lv_aload_n hx hb dJ15_compute_45 rfl (lv_at hl 2 rfl) ?_
      obtain ⟨o6, eo6, h⟩ := bind_step h
      refine r_ci (r_runS (rest := []) (As := [.double x0, .ref q1]) hC 2 (m_J11___ieee754_rem_pio2 x0 q1 (fun _ => 0) o6 eo6) q353 q200 q52 q201 hd_J11___ieee754_rem_pio2 rfl ⟨Nat.le_of_ble_eq_true rfl, Nat.le_of_ble_eq_true rfl⟩ hS ⟨hq1, hB_hq1⟩ hl.1 rfl (Nat.le_of_ble_eq_true rfl) dJ15_compute_46 ⟨Nat.le_of_ble_eq_true rfl, Nat.le_of_ble_eq_true rfl⟩) hS (fun b H locs hp hS hz => ?_)
      obtain ⟨rfl, hq1, hO⟩ := hp
      have hF := hF.fresh hO (fun a ha z => absurd (z ▸ ha) (Nat.not_lt.mpr gq1))
      refine lv_istore (lv' := [(5, .int o6.1), (6, .int v3), (3, .double 0), (2, .ref q1), (0, .double x0)]) hx hb dJ15_compute_49 hl (by decide) rfl (fun ls hl => ?_)
      refine lv_aload_n hx hb dJ15_compute_51 rfl (lv_at hl 3 rfl) ?_
      refine lv_iconst (v := 0) hx hb dJ15_compute_52 (by decide) ?_
      refine r_dald hx hb hS hq1 0 ⟨rfl, by decide, by decide⟩ dJ15_compute_53 ?_
      obtain ⟨v7, ev7, h⟩ := ltd_step h
      refine r_nmD ev7 ?_
      refine lv_aload_n hx hb dJ15_compute_54 rfl (lv_at hl 3 rfl) ?_
      refine lv_iconst (v := 1) hx hb dJ15_compute_55 (by decide) ?_
      refine r_dald hx hb hS hq1 1 ⟨rfl, by decide, by decide⟩ dJ15_compute_56 ?_
      obtain ⟨v8, ev8, h⟩ := ltd_step h
      refine r_nmD ev8 ?_
      refine lv_iconst (v := 1) hx hb dJ15_compute_57 (by decide) ?_
      refine lv_iload hx hb dJ15_compute_58 (lv_at hl 0 rfl) ?_
      refine lv_iconst (v := 1) hx hb dJ15_compute_60 (by decide) ?_
      obtain ⟨v9, ev9, h⟩ := lti_step h
      refine r_iand hx hb ev9 dJ15_compute_61 ?_
      refine lv_iconst (v := 1) hx hb dJ15_compute_62 (by decide) ?_
      obtain ⟨v10, ev10, h⟩ := lti_step h
      refine r_ishl hx hb ev10 dJ15_compute_63 ?_
      obtain ⟨v11, ev11, h⟩ := lti_step h
      refine r_isub hx hb ev11 dJ15_compute_64 ?_
      obtain ⟨o12, eo12, h⟩ := bind_step h
      refine r_cp (r_runS (rest := []) (As := [.double v7, .double v8, .int v11]) hC 3 (m_J15___kernel_tan v7 v8 v11  o12 eo12) q338 q339 q56 q340 hd_J15___kernel_tan rfl ⟨Nat.le_of_ble_eq_true rfl, Nat.le_of_ble_eq_true rfl⟩ hS trivial hl.1 rfl (Nat.le_of_ble_eq_true rfl) dJ15_compute_65 ⟨Nat.le_of_ble_eq_true rfl, Nat.le_of_ble_eq_true rfl⟩) ?_
      obtain rfl := Option.some.inj h
      rw [eQ]
      exact r_dret hx hb hr hlk hS (Nat.le_of_ble_eq_true rfl) (Nat.le_of_ble_eq_true rfl) dJ15_compute_68 ⟨_, rfl, rfl, hF⟩
    · have h := it_neg h c5
      refine lv_dload_n hx hb dJ15_compute_40 rfl (lv_at hl 3 rfl) ?_
      refine lv_dload_n hx hb dJ15_compute_41 rfl (lv_at hl 3 rfl) ?_
      obtain ⟨v13, ev13, nv13, h⟩ := ck_step h
      refine r_dsub hx hb ev13 nv13 dJ15_compute_42 ?_
      obtain rfl := Option.some.inj h
      rw [eQ]
      exact r_dret hx hb hr hlk hS (Nat.le_of_ble_eq_true rfl) (Nat.le_of_ble_eq_true rfl) dJ15_compute_43 ⟨_, rfl, rfl, hF⟩
  · have h := it_neg h c4
    refine lv_dload_n hx hb dJ15_compute_26 rfl (lv_at hl 3 rfl) ?_
    refine lv_dload_n hx hb dJ15_compute_27 rfl (lv_at hl 1 rfl) ?_
    refine lv_iconst (v := 1) hx hb dJ15_compute_28 (by decide) ?_
    obtain ⟨o14, eo14, h⟩ := bind_step h
    refine r_cp (r_runS (rest := []) (As := [.double x0, .double 0, .int 1]) hC 3 (m_J15___kernel_tan x0 0 1  o14 eo14) q338 q339 q56 q340 hd_J15___kernel_tan rfl ⟨Nat.le_of_ble_eq_true rfl, Nat.le_of_ble_eq_true rfl⟩ hS trivial hl.1 rfl (Nat.le_of_ble_eq_true rfl) dJ15_compute_29 ⟨Nat.le_of_ble_eq_true rfl, Nat.le_of_ble_eq_true rfl⟩) ?_
    obtain rfl := Option.some.inj h
    rw [eQ]
    exact r_dret hx hb hr hlk hS (Nat.le_of_ble_eq_true rfl) (Nat.le_of_ble_eq_true rfl) dJ15_compute_32 ⟨_, rfl, rfl, hF⟩

abbrev R_J6_sin : Room := { frames := 8, cells := 6, slots := 85, locals := 1390 }
noncomputable def f_J6_sin (x0 : UInt64) : Option (UInt64) :=
  Option.bind (f_J7_compute x0) fun o1 =>
  some (o1)
theorem hd_J6_sin : Hd yJ6_sin 1 := by unfold Hd; decide +kernel
set_option maxHeartbeats 4000000 in
set_option maxRecDepth 100000 in
theorem m_J6_sin {l : Launch} {D : DD} (x0 : UInt64)  (r : UInt64) (h : f_J6_sin x0 = some r) : MT l D yJ6_sin cJ6_sin 2 (some .double) 8 1390 6 85 [.double x0] NoPre (pD (fun H b H' => b = r ∧ Off (fun _ => False) H H')) := by
  refine MT.start (by decide +kernel) (Nat.le_of_ble_eq_true rfl) ?_
  intro p e s m below meth c ls hC hS hp hl
  obtain ⟨hx, hb, hr, hlk, hml, hown, hts, hnm⟩ := id hC
  have hl : lv_has ls 2 [(0, .double x0)] := hl
  unfold f_J6_sin at h
  have hS0 := hS
  obtain ⟨A, eA⟩ : ∃ A : Array Value, A = [.double x0].toArray := ⟨_, rfl⟩
  rw [← eA] at hC hts ⊢
  obtain ⟨Q, eQ⟩ : ∃ Q : State → Prop, Q = MQ below (TQ D (pD (fun H b H' => b = r ∧ Off (fun _ => False) H H'))) A s 6 85 (fun q => dB D ≤ q) := ⟨_, rfl⟩
  have hF : Off (fun _ => False) s.heap s.heap := Off.rf
  show W p l e R_J6_sin s m A below meth c s.heap [] 0 0 _ _
  rw [← eQ]
  obtain ⟨H, eH⟩ : ∃ H : Heap, H = s.heap := ⟨_, rfl⟩
  obtain ⟨locs, eLc⟩ : ∃ L : List Loc, L = [] := ⟨_, rfl⟩
  rw [← eH, ← eLc]
  have hF : Off (fun _ => False) s.heap H := by rw [eH]; exact hF
  have hS : St D s H locs := by rw [eH, eLc]; exact hS
  refine lv_dload_n hx hb dJ6_sin_0 rfl (lv_at hl 0 rfl) ?_
  obtain ⟨o1, eo1, h⟩ := bind_step h
  refine r_cd (r_runS (rest := []) (As := [.double x0]) hC 1 (m_J7_compute x0  o1 eo1) q176 q177 q48 q178 hd_J7_compute rfl ⟨Nat.le_of_ble_eq_true rfl, Nat.le_of_ble_eq_true rfl⟩ hS trivial hl.1 rfl (Nat.le_of_ble_eq_true rfl) dJ6_sin_1 ⟨Nat.le_of_ble_eq_true rfl, Nat.le_of_ble_eq_true rfl⟩) hS (fun b H locs hp hS hz => ?_)
  obtain ⟨rfl, hO⟩ := hp
  have hF := hF.trans (hO.mono (fun _ _ z => z.elim))
  obtain rfl := Option.some.inj h
  rw [eQ]
  exact r_dret hx hb hr hlk hS (Nat.le_of_ble_eq_true rfl) (Nat.le_of_ble_eq_true rfl) dJ6_sin_4 ⟨_, rfl, rfl, hF⟩

abbrev R_J6_cos : Room := { frames := 8, cells := 6, slots := 85, locals := 1390 }
noncomputable def f_J6_cos (x0 : UInt64) : Option (UInt64) :=
  Option.bind (f_J14_compute x0) fun o1 =>
  some (o1)
theorem hd_J6_cos : Hd yJ6_cos 1 := by unfold Hd; decide +kernel
set_option maxHeartbeats 4000000 in
set_option maxRecDepth 100000 in
theorem m_J6_cos {l : Launch} {D : DD} (x0 : UInt64)  (r : UInt64) (h : f_J6_cos x0 = some r) : MT l D yJ6_cos cJ6_cos 2 (some .double) 8 1390 6 85 [.double x0] NoPre (pD (fun H b H' => b = r ∧ Off (fun _ => False) H H')) := by
  refine MT.start (by decide +kernel) (Nat.le_of_ble_eq_true rfl) ?_
  intro p e s m below meth c ls hC hS hp hl
  obtain ⟨hx, hb, hr, hlk, hml, hown, hts, hnm⟩ := id hC
  have hl : lv_has ls 2 [(0, .double x0)] := hl
  unfold f_J6_cos at h
  have hS0 := hS
  obtain ⟨A, eA⟩ : ∃ A : Array Value, A = [.double x0].toArray := ⟨_, rfl⟩
  rw [← eA] at hC hts ⊢
  obtain ⟨Q, eQ⟩ : ∃ Q : State → Prop, Q = MQ below (TQ D (pD (fun H b H' => b = r ∧ Off (fun _ => False) H H'))) A s 6 85 (fun q => dB D ≤ q) := ⟨_, rfl⟩
  have hF : Off (fun _ => False) s.heap s.heap := Off.rf
  show W p l e R_J6_cos s m A below meth c s.heap [] 0 0 _ _
  rw [← eQ]
  obtain ⟨H, eH⟩ : ∃ H : Heap, H = s.heap := ⟨_, rfl⟩
  obtain ⟨locs, eLc⟩ : ∃ L : List Loc, L = [] := ⟨_, rfl⟩
  rw [← eH, ← eLc]
  have hF : Off (fun _ => False) s.heap H := by rw [eH]; exact hF
  have hS : St D s H locs := by rw [eH, eLc]; exact hS
  refine lv_dload_n hx hb dJ6_cos_0 rfl (lv_at hl 0 rfl) ?_
  obtain ⟨o1, eo1, h⟩ := bind_step h
  refine r_cd (r_runS (rest := []) (As := [.double x0]) hC 1 (m_J14_compute x0  o1 eo1) q321 q322 q55 q323 hd_J14_compute rfl ⟨Nat.le_of_ble_eq_true rfl, Nat.le_of_ble_eq_true rfl⟩ hS trivial hl.1 rfl (Nat.le_of_ble_eq_true rfl) dJ6_cos_1 ⟨Nat.le_of_ble_eq_true rfl, Nat.le_of_ble_eq_true rfl⟩) hS (fun b H locs hp hS hz => ?_)
  obtain ⟨rfl, hO⟩ := hp
  have hF := hF.trans (hO.mono (fun _ _ z => z.elim))
  obtain rfl := Option.some.inj h
  rw [eQ]
  exact r_dret hx hb hr hlk hS (Nat.le_of_ble_eq_true rfl) (Nat.le_of_ble_eq_true rfl) dJ6_cos_4 ⟨_, rfl, rfl, hF⟩

abbrev R_J6_tan : Room := { frames := 8, cells := 6, slots := 85, locals := 1390 }
noncomputable def f_J6_tan (x0 : UInt64) : Option (UInt64) :=
  Option.bind (f_J15_compute x0) fun o1 =>
  some (o1)
theorem hd_J6_tan : Hd yJ6_tan 1 := by unfold Hd; decide +kernel
set_option maxHeartbeats 4000000 in
set_option maxRecDepth 100000 in
theorem m_J6_tan {l : Launch} {D : DD} (x0 : UInt64)  (r : UInt64) (h : f_J6_tan x0 = some r) : MT l D yJ6_tan cJ6_tan 2 (some .double) 8 1390 6 85 [.double x0] NoPre (pD (fun H b H' => b = r ∧ Off (fun _ => False) H H')) := by
  refine MT.start (by decide +kernel) (Nat.le_of_ble_eq_true rfl) ?_
  intro p e s m below meth c ls hC hS hp hl
  obtain ⟨hx, hb, hr, hlk, hml, hown, hts, hnm⟩ := id hC
  have hl : lv_has ls 2 [(0, .double x0)] := hl
  unfold f_J6_tan at h
  have hS0 := hS
  obtain ⟨A, eA⟩ : ∃ A : Array Value, A = [.double x0].toArray := ⟨_, rfl⟩
  rw [← eA] at hC hts ⊢
  obtain ⟨Q, eQ⟩ : ∃ Q : State → Prop, Q = MQ below (TQ D (pD (fun H b H' => b = r ∧ Off (fun _ => False) H H'))) A s 6 85 (fun q => dB D ≤ q) := ⟨_, rfl⟩
  have hF : Off (fun _ => False) s.heap s.heap := Off.rf
  show W p l e R_J6_tan s m A below meth c s.heap [] 0 0 _ _
  rw [← eQ]
  obtain ⟨H, eH⟩ : ∃ H : Heap, H = s.heap := ⟨_, rfl⟩
  obtain ⟨locs, eLc⟩ : ∃ L : List Loc, L = [] := ⟨_, rfl⟩
  rw [← eH, ← eLc]
  have hF : Off (fun _ => False) s.heap H := by rw [eH]; exact hF
  have hS : St D s H locs := by rw [eH, eLc]; exact hS
  refine lv_dload_n hx hb dJ6_tan_0 rfl (lv_at hl 0 rfl) ?_
  obtain ⟨o1, eo1, h⟩ := bind_step h
  refine r_cd (r_runS (rest := []) (As := [.double x0]) hC 1 (m_J15_compute x0  o1 eo1) q332 q333 q56 q334 hd_J15_compute rfl ⟨Nat.le_of_ble_eq_true rfl, Nat.le_of_ble_eq_true rfl⟩ hS trivial hl.1 rfl (Nat.le_of_ble_eq_true rfl) dJ6_tan_1 ⟨Nat.le_of_ble_eq_true rfl, Nat.le_of_ble_eq_true rfl⟩) hS (fun b H locs hp hS hz => ?_)
  obtain ⟨rfl, hO⟩ := hp
  have hF := hF.trans (hO.mono (fun _ _ z => z.elim))
  obtain rfl := Option.some.inj h
  rw [eQ]
  exact r_dret hx hb hr hlk hS (Nat.le_of_ble_eq_true rfl) (Nat.le_of_ble_eq_true rfl) dJ6_tan_4 ⟨_, rfl, rfl, hF⟩

