/-! the constructor of Anglewheel: by tools/gen28.py -/
abbrev R_X1_init : Room := { frames := 11, cells := 271, slots := 2638, locals := 1469 }
noncomputable def f_X1_init (_u : Unit) : Option ((Nat → UInt64) × (Nat → UInt64) × (Nat → Int32)) :=
  Option.bind (f_X1_isLawful 0) fun o4 =>
  lt (fun (f5 : Nat → Int32) (v6 : Int32) =>
  (show Option (Sum ((Nat → Int32) × Int32) ((Nat → Int32))) from (
  (if 8 ≤ v6 then
    some (.inr f5)
  else
    gd 8 v6 fun i16 =>
    lt (va_up f5 i16 (bI o4)) fun f17 =>
    lti (v6 + 1) fun v18 =>
    some (.inl (f17, v18))
  )
  ))
  ) fun F12 =>
  Option.bind (lp 9 (fun x => F12 x.1 x.2) ((fun _ => 0), 0)) fun w13 =>
  some ((fun _ => 0), (fun _ => 0), w13)
theorem hd_X1_init : Hd yX1_init 0 := by unfold Hd; decide +kernel
set_option maxHeartbeats 4000000 in
set_option maxRecDepth 100000 in
theorem m_X1_init {l : Launch} {D : DD} (x0 : Nat)   (r : (Nat → UInt64) × (Nat → UInt64) × (Nat → Int32)) (h : f_X1_init () = some r) : MT l D yX1_init cX1_init 3 none 11 1469 271 2638 [.ref x0] (fun H => ON D 0 x0 [.null, .null, .null, .int 0, .int 0, .int 0, .int 0] H ∧ dB D ≤ x0) (pV (fun H H' => ∃ mx0_0 mx0_1 mx0_2 : Nat, ON D 0 x0 [.ref mx0_0, .ref mx0_1, .ref mx0_2, .int 0, .int 0, .int 0, .int 0] H' ∧ aD D mx0_0 8 r.1 H' ∧ H.size ≤ mx0_0 ∧ aD D mx0_1 8 r.2.1 H' ∧ H.size ≤ mx0_1 ∧ aZ D mx0_2 8 r.2.2 H' ∧ H.size ≤ mx0_2 ∧ mx0_0 ≠ mx0_1 ∧ mx0_0 ≠ mx0_2 ∧ mx0_1 ≠ mx0_2 ∧ Off (fun a => a = x0) H H')) := by
  refine MT.start (by decide +kernel) (Nat.le_of_ble_eq_true rfl) ?_
  intro p e s m below meth c ls hC hS hp hl
  obtain ⟨h_x0, hB_h_x0⟩ := hp
  obtain ⟨hx, hb, hr, hlk, hml, hown, hts, hnm⟩ := id hC
  have hl : lv_has ls 3 [(0, .ref x0)] := hl
  unfold f_X1_init at h
  have hS0 := hS
  obtain ⟨A, eA⟩ : ∃ A : Array Value, A = [.ref x0].toArray := ⟨_, rfl⟩
  rw [← eA] at hC hts ⊢
  obtain ⟨Q, eQ⟩ : ∃ Q : State → Prop, Q = MQ below (TQ D (pV (fun H H' => ∃ mx0_0 mx0_1 mx0_2 : Nat, ON D 0 x0 [.ref mx0_0, .ref mx0_1, .ref mx0_2, .int 0, .int 0, .int 0, .int 0] H' ∧ aD D mx0_0 8 r.1 H' ∧ H.size ≤ mx0_0 ∧ aD D mx0_1 8 r.2.1 H' ∧ H.size ≤ mx0_1 ∧ aZ D mx0_2 8 r.2.2 H' ∧ H.size ≤ mx0_2 ∧ mx0_0 ≠ mx0_1 ∧ mx0_0 ≠ mx0_2 ∧ mx0_1 ≠ mx0_2 ∧ Off (fun a => a = x0) H H'))) A s 271 2638 (fun q => dB D ≤ q) := ⟨_, rfl⟩
  have hF : Off (fun a => a = x0) s.heap s.heap := Off.rf
  show W p l e R_X1_init s m A below meth c s.heap [] 0 0 _ _
  rw [← eQ]
  obtain ⟨H, eH⟩ : ∃ H : Heap, H = s.heap := ⟨_, rfl⟩
  obtain ⟨locs, eLc⟩ : ∃ L : List Loc, L = [] := ⟨_, rfl⟩
  have lt_h_x0 := h_x0.lt
  rw [← eH, ← eLc]
  have hF : Off (fun a => a = x0) s.heap H := by rw [eH]; exact hF
  rw [← eH] at h_x0
  have hS : St D s H locs := by rw [eH, eLc]; exact hS
  refine lv_aload_n hx hb dX1_init_0 rfl (lv_at hl 0 rfl) ?_
  refine r_oinit hC q169 q95 q96 hl.1 dX1_init_1 ⟨Nat.le_of_ble_eq_true rfl, Nat.le_of_ble_eq_true rfl⟩ ?_
  refine lv_aload_n hx hb dX1_init_4 rfl (lv_at hl 0 rfl) ?_
  refine lv_bipush (v := 8) hx hb dX1_init_5 (by decide) ?_
  refine r_newa hx hb hts hS (ty := .double) rfl q451 8 rfl (by decide) (by decide) (Nat.le_of_ble_eq_true rfl) (Nat.le_of_ble_eq_true rfl) dX1_init_7 (fun ad1 H eq_ad1 hS hE had1 z_ad1 hB_had1 => ?_)
  have had1 : aD D ad1 8 (fun _ => 0) H := had1
  have gad1 : s.heap.size ≤ ad1 := by have := hF.1; omega
  have ne_h_x0_had1 : x0 ≠ ad1 := by have := h_x0.lt; omega
  have h_x0 := h_x0.ext hE
  have hF := hF.trans (hE.mono (fun _ _ z => z.elim))
  refine r_putF hx hb hts hown hS h_x0 hB_h_x0 rfl in_X1 tyX1 tyX1_ok nmX1 0 (Nat.le_of_ble_eq_true rfl) rfl q914 rfl rfl hnm rfl (v := .ref ad1) rfl (by rfl) dX1_init_9 (fun H locs hS hO h_x0 => ?_)
  have h_x0 : ON D 0 x0 [.ref ad1, .null, .null, .int 0, .int 0, .int 0, .int 0] H := h_x0
  have had1 := had1.off hO (Ne.symm ne_h_x0_had1)
  have hF := hF.fresh hO (fun a ha z => z)
  refine lv_aload_n hx hb dX1_init_12 rfl (lv_at hl 0 rfl) ?_
  refine lv_bipush (v := 8) hx hb dX1_init_13 (by decide) ?_
  refine r_newa hx hb hts hS (ty := .double) rfl q451 8 rfl (by decide) (by decide) (Nat.le_of_ble_eq_true rfl) (Nat.le_of_ble_eq_true rfl) dX1_init_15 (fun ad2 H eq_ad2 hS hE had2 z_ad2 hB_had2 => ?_)
  have had2 : aD D ad2 8 (fun _ => 0) H := had2
  have gad2 : s.heap.size ≤ ad2 := by have := hF.1; omega
  have ne_h_x0_had2 : x0 ≠ ad2 := by have := h_x0.lt; omega
  have h_x0 := h_x0.ext hE
  have ne_had1_had2 : ad1 ≠ ad2 := by have := had1.lt; omega
  have had1 := had1.ext hE
  have hF := hF.trans (hE.mono (fun _ _ z => z.elim))
  refine r_putF hx hb hts hown hS h_x0 hB_h_x0 rfl in_X1 tyX1 tyX1_ok nmX1 1 (Nat.le_of_ble_eq_true rfl) rfl q915 rfl rfl hnm rfl (v := .ref ad2) rfl (by rfl) dX1_init_17 (fun H locs hS hO h_x0 => ?_)
  have h_x0 : ON D 0 x0 [.ref ad1, .ref ad2, .null, .int 0, .int 0, .int 0, .int 0] H := h_x0
  have had1 := had1.off hO (Ne.symm ne_h_x0_had1)
  have had2 := had2.off hO (Ne.symm ne_h_x0_had2)
  have hF := hF.fresh hO (fun a ha z => z)
  refine lv_aload_n hx hb dX1_init_20 rfl (lv_at hl 0 rfl) ?_
  refine lv_bipush (v := 8) hx hb dX1_init_21 (by decide) ?_
  refine r_newa hx hb hts hS (ty := .boolean) rfl q452 8 rfl (by decide) (by decide) (Nat.le_of_ble_eq_true rfl) (Nat.le_of_ble_eq_true rfl) dX1_init_23 (fun ad3 H eq_ad3 hS hE had3 z_ad3 hB_had3 => ?_)
  have had3 : aZ D ad3 8 (fun _ => 0) H := had3
  have gad3 : s.heap.size ≤ ad3 := by have := hF.1; omega
  have ne_h_x0_had3 : x0 ≠ ad3 := by have := h_x0.lt; omega
  have h_x0 := h_x0.ext hE
  have ne_had1_had3 : ad1 ≠ ad3 := by have := had1.lt; omega
  have had1 := had1.ext hE
  have ne_had2_had3 : ad2 ≠ ad3 := by have := had2.lt; omega
  have had2 := had2.ext hE
  have hF := hF.trans (hE.mono (fun _ _ z => z.elim))
  refine r_putF hx hb hts hown hS h_x0 hB_h_x0 rfl in_X1 tyX1 tyX1_ok nmX1 2 (Nat.le_of_ble_eq_true rfl) rfl q916 rfl rfl hnm rfl (v := .ref ad3) rfl (by rfl) dX1_init_25 (fun H locs hS hO h_x0 => ?_)
  have h_x0 : ON D 0 x0 [.ref ad1, .ref ad2, .ref ad3, .int 0, .int 0, .int 0, .int 0] H := h_x0
  have had1 := had1.off hO (Ne.symm ne_h_x0_had1)
  have had2 := had2.off hO (Ne.symm ne_h_x0_had2)
  have had3 := had3.off hO (Ne.symm ne_h_x0_had3)
  have hF := hF.fresh hO (fun a ha z => z)
  refine lv_dconst0 hx hb dX1_init_28 ?_
  obtain ⟨o4, eo4, h⟩ := bind_step h
  refine r_cz (r_runS (rest := []) (As := [.double 0]) hC 1 (m_X1_isLawful   0 o4 eo4) q170 q171 q46 q172 hd_X1_isLawful rfl ⟨Nat.le_of_ble_eq_true rfl, Nat.le_of_ble_eq_true rfl⟩ hS trivial hl.1 rfl (Nat.le_of_ble_eq_true rfl) dX1_init_29 ⟨Nat.le_of_ble_eq_true rfl, Nat.le_of_ble_eq_true rfl⟩) hS (fun b H locs hp hS hz => ?_)
  obtain ⟨eb_, hO⟩ := hp
  rw [eb_]
  have h_x0 := h_x0.ext hO
  have had1 := had1.ext hO
  have had2 := had2.ext hO
  have had3 := had3.ext hO
  have hF := hF.trans (hO.mono (fun _ _ z => z.elim))
  refine lv_istore_n (lv' := [(1, .int (bI o4)), (0, .ref x0)]) hx hb dX1_init_32 rfl hl (by decide) rfl (fun ls hl => ?_)
  refine lv_iconst (v := 0) hx hb dX1_init_33 (by decide) ?_
  refine lv_istore_n (lv' := [(2, .int 0), (1, .int (bI o4)), (0, .ref x0)]) hx hb dX1_init_34 rfl hl (by decide) rfl (fun ls hl => ?_)
  obtain ⟨F12, eF12, h⟩ := lt_step h
  obtain ⟨w13, ew13, h⟩ := bind_step h
  have HL : ∀ (n : Nat) (f5 : Nat → Int32) (v6 : Int32) (w13 : (Nat → Int32)) (hk0 : lp n (fun x => F12 x.1 x.2) (f5, v6) = some w13)  (H : Heap) (locs : List Loc) (hS : St D s H locs) (hF : Off (fun a => a = x0) s.heap H) (h_x0 : ON D 0 x0 [.ref ad1, .ref ad2, .ref ad3, .int 0, .int 0, .int 0, .int 0] H) (had1 : aD D ad1 8 (fun _ => 0) H) (had2 : aD D ad2 8 (fun _ => 0) H) (had3 : aZ D ad3 8 f5 H) (ls : Array Slot) (hl : lv_has ls 3 [(0, .ref x0), (1, .int (bI o4)), (2, .int v6)]) (K54 : ∀ (H : Heap) (locs : List Loc) (hS : St D s H locs) (hF : Off (fun a => a = x0) s.heap H) (h_x0 : ON D 0 x0 [.ref ad1, .ref ad2, .ref ad3, .int 0, .int 0, .int 0, .int 0] H) (had1 : aD D ad1 8 (fun _ => 0) H) (had2 : aD D ad2 8 (fun _ => 0) H) (had3 : aZ D ad3 8 w13 H) (ls : Array Slot) (hl : lv_has ls 3 []), W p l e R_X1_init s m A below meth c H locs 271 2638 Q (F0 m 54 ls [])), W p l e R_X1_init s m A below meth c H locs 271 2638 Q (F0 m 35 ls []) := by
    intro n
    induction n with
    | zero => intro f5 v6 w13 hk0  H locs hS hF h_x0 had1 had2 had3 ls hl K54; exact lp_zero hk0
    | succ n ih =>
      intro f5 v6 w13 hk0  H locs hS hF h_x0 had1 had2 had3 ls hl K54
      obtain ⟨z14, hz, hk⟩ := lp_step hk0
      have h := (congrFun (congrFun (eF12) f5) v6).symm.trans hz
      refine lv_iload_n hx hb dX1_init_35 rfl (lv_at hl 2 rfl) ?_
      refine lv_bipush (v := 8) hx hb dX1_init_36 (by decide) ?_
      refine lv_icmp_ge (tgt := 54) hx hb dX1_init_38 (by decide) (fun c15 => ?_) (fun c15 => ?_)
      · have h := it_pos h c15
        obtain rfl := Option.some.inj h
        obtain rfl := id hk
        exact K54 H locs hS hF h_x0 had1 had2 had3 ls (lv_sub hl [] rfl)
      · have h := it_neg h c15
        refine lv_aload_n hx hb dX1_init_41 rfl (lv_at hl 0 rfl) ?_
        refine r_get hx hb hts hown hS h_x0.OA rfl in_X1 2 (by decide) q916 rfl (v := .ref ad3) rfl dX1_init_42 ?_
        refine lv_iload_n hx hb dX1_init_45 rfl (lv_at hl 2 rfl) ?_
        refine lv_iload_n hx hb dX1_init_46 rfl (lv_at hl 1 rfl) ?_
        obtain ⟨i16, xi16, h⟩ := gd_step (by decide) h
        obtain ⟨f17, ef17, h⟩ := lt_step h
        refine r_zast hx hb hS had3 hB_had3 i16 xi16 (narB _) dX1_init_47 (fun H locs hS hO had3 => ?_)
        have had3 : aZ D ad3 8 f17 H := by rw [ef17]; exact had3
        have h_x0 := h_x0.off hO ne_h_x0_had3
        have had1 := had1.off hO ne_had1_had3
        have had2 := had2.off hO ne_had2_had3
        have hF := hF.fresh hO (fun a ha z => absurd (z ▸ ha) (Nat.not_lt.mpr gad3))
        obtain ⟨v18, ev18, h⟩ := lti_step h
        refine lv_iinc (v := v18) (lv' := [(2, .int v18), (0, .ref x0), (1, .int (bI o4))]) hx hb dX1_init_48 hl (k := 2) rfl (by rw [ev18]; rfl) (by decide) rfl (fun ls hl => ?_)
        refine lv_goto (tgt := 35) hx hb dX1_init_51 (by decide) ?_
        obtain rfl := Option.some.inj h
        exact ih f17 v18 w13 hk  H locs hS hF h_x0 had1 had2 had3 ls (lv_sub hl [1, 2, 0] rfl) K54
  clear eF12
  refine HL 9 (fun _ => 0) 0 w13 ew13  H locs hS hF h_x0 had1 had2 had3 ls (lv_sub hl [2, 1, 0] rfl) (fun  H locs hS hF h_x0 had1 had2 had3 ls hl => ?_)
  obtain rfl := Option.some.inj h
  rw [eQ]
  exact r_vret hx hb hr hlk hS (Nat.le_of_ble_eq_true rfl) (Nat.le_of_ble_eq_true rfl) dX1_init_54 ⟨rfl, ad1, ad2, ad3, h_x0, had1, gad1, had2, gad2, had3, gad3, ne_had1_had2, ne_had1_had3, ne_had2_had3, hF⟩

