/-! the calls that throw; by tools/gen38.py -/
abbrev R_xc_cell : Room := { frames := 6, cells := 1, slots := 6, locals := 90 }
noncomputable def f_xc_cell (x0 : Int32) : Option (Nat) :=
  Option.bind (f_X1_isIn x0 0 7) fun o1 =>
  (if o1 = true then
    none
  else
    some 6
  )
theorem hd_xc_cell : Hd yX1_mustBeCell 1 := by unfold Hd; decide +kernel
set_option maxHeartbeats 4000000 in
set_option maxRecDepth 100000 in
theorem m_xc_cell {l : Launch} (hfl : l.stackTraces = false) {D : DD}   (x0 : Int32) (r : Nat) (h : f_xc_cell x0 = some r) : MX l D yX1_mustBeCell cX1_mustBeCell 1 none 6 90 [.int x0] NoPre r := by
  refine MX.start (by decide +kernel) (Nat.le_of_ble_eq_true rfl) ?_
  intro p e s m below meth c ls hC hout hS hp hl
  obtain ⟨hx, hb, hr, hlk, hml, hown, hts, hnm⟩ := id hC
  have hl : lv_has ls 1 [(0, .int x0)] := hl
  unfold f_xc_cell at h
  have hS0 := hS
  obtain ⟨A, eA⟩ : ∃ A : Array Value, A = [.int x0].toArray := ⟨_, rfl⟩
  rw [← eA] at hC hts ⊢
  obtain ⟨Q, eQ⟩ : ∃ Q : State → Prop, Q = vx_MQ below NoRet (XQ D r) A s 1 6 (fun q => dB D ≤ q) := ⟨_, rfl⟩
  show W p l e R_xc_cell s m A below meth c s.heap [] 0 0 _ _
  rw [← eQ]
  refine lv_iload_n hx hb dX1_mustBeCell_0 rfl (lv_at hl 0 rfl) ?_
  refine lv_iconst (v := 0) hx hb dX1_mustBeCell_1 (by decide) ?_
  refine lv_bipush (v := 7) hx hb dX1_mustBeCell_2 (by decide) ?_
  obtain ⟨o1, eo1, h⟩ := bind_step h
  refine r_cp (r_runS (rest := []) (As := [.int x0, .int 0, .int 7]) hC 3 (m_X1_isIn   x0 0 7 o1 eo1) q395 q396 q46 q397 hd_X1_isIn rfl ⟨Nat.le_of_ble_eq_true rfl, Nat.le_of_ble_eq_true rfl⟩ hS trivial hl.1 rfl (Nat.le_of_ble_eq_true rfl) dX1_mustBeCell_4 ⟨Nat.le_of_ble_eq_true rfl, Nat.le_of_ble_eq_true rfl⟩) ?_
  refine r_ifz_ne (tgt := 18) hx hb dX1_mustBeCell_7 (by decide) (fun c2 => ?_) (fun c2 => ?_)
  · have h := it_pos h (by rw [c2])
    cases h
  · have h := it_neg h (by rw [c2]; decide)
    obtain rfl := Option.some.inj h
    rw [eQ]
    exact r_throw (k := 6) (ik := 32) (ic := 34) (names := ["java/lang/RuntimeException", "java/lang/Exception"]) hC hfl hout hS (by decide +kernel) (by decide +kernel) q959 q43 (by decide +kernel) (by decide +kernel) hl.1 dX1_mustBeCell_10 dX1_mustBeCell_13 dX1_mustBeCell_14 dX1_mustBeCell_17 (by decide)

abbrev R_xc_fit : Room := { frames := 6, cells := 1, slots := 6, locals := 90 }
noncomputable def f_xc_fit (x0 : Bool) : Option (Nat) :=
  (if x0 = true then
    none
  else
    some 7
  )
theorem hd_xc_fit : Hd yX1_mustFit 1 := by unfold Hd; decide +kernel
set_option maxHeartbeats 4000000 in
set_option maxRecDepth 100000 in
theorem m_xc_fit {l : Launch} (hfl : l.stackTraces = false) {D : DD}   (x0 : Bool) (r : Nat) (h : f_xc_fit x0 = some r) : MX l D yX1_mustFit cX1_mustFit 1 none 6 90 [.int (bI x0)] NoPre r := by
  refine MX.start (by decide +kernel) (Nat.le_of_ble_eq_true rfl) ?_
  intro p e s m below meth c ls hC hout hS hp hl
  obtain ⟨hx, hb, hr, hlk, hml, hown, hts, hnm⟩ := id hC
  have hl : lv_has ls 1 [(0, .int (bI x0))] := hl
  unfold f_xc_fit at h
  have hS0 := hS
  obtain ⟨A, eA⟩ : ∃ A : Array Value, A = [.int (bI x0)].toArray := ⟨_, rfl⟩
  rw [← eA] at hC hts ⊢
  obtain ⟨Q, eQ⟩ : ∃ Q : State → Prop, Q = vx_MQ below NoRet (XQ D r) A s 1 6 (fun q => dB D ≤ q) := ⟨_, rfl⟩
  show W p l e R_xc_fit s m A below meth c s.heap [] 0 0 _ _
  rw [← eQ]
  refine lv_iload_n hx hb dX1_mustFit_0 rfl (lv_at hl 0 rfl) ?_
  refine r_ifz_ne (tgt := 12) hx hb dX1_mustFit_1 (by decide) (fun c1 => ?_) (fun c1 => ?_)
  · have h := it_pos h (by rw [c1])
    cases h
  · have h := it_neg h (by rw [c1]; decide)
    obtain rfl := Option.some.inj h
    rw [eQ]
    exact r_throw (k := 7) (ik := 35) (ic := 37) (names := ["java/lang/RuntimeException", "java/lang/Exception"]) hC hfl hout hS (by decide +kernel) (by decide +kernel) q1233 q62 (by decide +kernel) (by decide +kernel) hl.1 dX1_mustFit_4 dX1_mustFit_7 dX1_mustFit_8 dX1_mustFit_11 (by decide)

abbrev R_xc_angleAt : Room := { frames := 7, cells := 1, slots := 6, locals := 110 }
noncomputable def f_xc_angleAt (x0r0c : Nat → UInt64) (x0r1c : Nat → UInt64) (x0r2c : Nat → Int32) (x0f3 : Int32) (x0f4 : Int32) (x0f5 : Int32) (x0f6 : Int32) (x1 : Int32) : Option (Nat) :=
  f_xc_cell x1
theorem hd_xc_angleAt : Hd yX1_angleAt 1 := by unfold Hd; decide +kernel
set_option maxHeartbeats 4000000 in
set_option maxRecDepth 100000 in
theorem m_xc_angleAt {l : Launch} (hfl : l.stackTraces = false) {D : DD} (x0 : Nat) (x0r0 : Nat) (x0r1 : Nat) (x0r2 : Nat)  (x0r0c : Nat → UInt64) (x0r1c : Nat → UInt64) (x0r2c : Nat → Int32) (x0f3 : Int32) (x0f4 : Int32) (x0f5 : Int32) (x0f6 : Int32) (x1 : Int32) (r : Nat) (h : f_xc_angleAt x0r0c x0r1c x0r2c x0f3 x0f4 x0f5 x0f6 x1 = some r) : MX l D yX1_angleAt cX1_angleAt 2 (some .double) 7 110 [.ref x0, .int x1] (fun H => ON D 0 x0 [.ref x0r0, .ref x0r1, .ref x0r2, .int x0f3, .int x0f4, .int x0f5, .int x0f6] H ∧ aD D x0r0 8 x0r0c H ∧ aD D x0r1 8 x0r1c H ∧ aZ D x0r2 8 x0r2c H) r := by
  refine MX.start (by decide +kernel) (Nat.le_of_ble_eq_true rfl) ?_
  intro p e s m below meth c ls hC hout hS hp hl
  obtain ⟨h_x0, h_x0r0, h_x0r1, h_x0r2⟩ := hp
  obtain ⟨hx, hb, hr, hlk, hml, hown, hts, hnm⟩ := id hC
  have hl : lv_has ls 2 [(0, .ref x0), (1, .int x1)] := hl
  unfold f_xc_angleAt at h
  have hS0 := hS
  obtain ⟨A, eA⟩ : ∃ A : Array Value, A = [.ref x0, .int x1].toArray := ⟨_, rfl⟩
  rw [← eA] at hC hts ⊢
  obtain ⟨Q, eQ⟩ : ∃ Q : State → Prop, Q = vx_MQ below NoRet (XQ D r) A s 1 6 (fun q => dB D ≤ q) := ⟨_, rfl⟩
  show W p l e R_xc_angleAt s m A below meth c s.heap [] 0 0 _ _
  rw [← eQ]
  refine lv_iload_n hx hb dX1_angleAt_0 rfl (lv_at hl 1 rfl) ?_
  rw [eQ]
  exact r_xp hlk hout (r_xS (rest := []) (As := [.int x1]) hC 1 (m_xc_cell hfl   x1 _ h) q956 q957 q46 q958 hd_xc_cell rfl ⟨Nat.le_of_ble_eq_true rfl, Nat.le_of_ble_eq_true rfl⟩ hS trivial hl.1 rfl (Nat.le_of_ble_eq_true rfl) dX1_angleAt_1 ⟨Nat.le_of_ble_eq_true rfl, Nat.le_of_ble_eq_true rfl⟩)

abbrev R_xc_heightAt : Room := { frames := 7, cells := 1, slots := 6, locals := 110 }
noncomputable def f_xc_heightAt (x0r0c : Nat → UInt64) (x0r1c : Nat → UInt64) (x0r2c : Nat → Int32) (x0f3 : Int32) (x0f4 : Int32) (x0f5 : Int32) (x0f6 : Int32) (x1 : Int32) : Option (Nat) :=
  f_xc_cell x1
theorem hd_xc_heightAt : Hd yX1_heightAt 1 := by unfold Hd; decide +kernel
set_option maxHeartbeats 4000000 in
set_option maxRecDepth 100000 in
theorem m_xc_heightAt {l : Launch} (hfl : l.stackTraces = false) {D : DD} (x0 : Nat) (x0r0 : Nat) (x0r1 : Nat) (x0r2 : Nat)  (x0r0c : Nat → UInt64) (x0r1c : Nat → UInt64) (x0r2c : Nat → Int32) (x0f3 : Int32) (x0f4 : Int32) (x0f5 : Int32) (x0f6 : Int32) (x1 : Int32) (r : Nat) (h : f_xc_heightAt x0r0c x0r1c x0r2c x0f3 x0f4 x0f5 x0f6 x1 = some r) : MX l D yX1_heightAt cX1_heightAt 2 (some .double) 7 110 [.ref x0, .int x1] (fun H => ON D 0 x0 [.ref x0r0, .ref x0r1, .ref x0r2, .int x0f3, .int x0f4, .int x0f5, .int x0f6] H ∧ aD D x0r0 8 x0r0c H ∧ aD D x0r1 8 x0r1c H ∧ aZ D x0r2 8 x0r2c H) r := by
  refine MX.start (by decide +kernel) (Nat.le_of_ble_eq_true rfl) ?_
  intro p e s m below meth c ls hC hout hS hp hl
  obtain ⟨h_x0, h_x0r0, h_x0r1, h_x0r2⟩ := hp
  obtain ⟨hx, hb, hr, hlk, hml, hown, hts, hnm⟩ := id hC
  have hl : lv_has ls 2 [(0, .ref x0), (1, .int x1)] := hl
  unfold f_xc_heightAt at h
  have hS0 := hS
  obtain ⟨A, eA⟩ : ∃ A : Array Value, A = [.ref x0, .int x1].toArray := ⟨_, rfl⟩
  rw [← eA] at hC hts ⊢
  obtain ⟨Q, eQ⟩ : ∃ Q : State → Prop, Q = vx_MQ below NoRet (XQ D r) A s 1 6 (fun q => dB D ≤ q) := ⟨_, rfl⟩
  show W p l e R_xc_heightAt s m A below meth c s.heap [] 0 0 _ _
  rw [← eQ]
  refine lv_iload_n hx hb dX1_heightAt_0 rfl (lv_at hl 1 rfl) ?_
  rw [eQ]
  exact r_xp hlk hout (r_xS (rest := []) (As := [.int x1]) hC 1 (m_xc_cell hfl   x1 _ h) q956 q957 q46 q958 hd_xc_cell rfl ⟨Nat.le_of_ble_eq_true rfl, Nat.le_of_ble_eq_true rfl⟩ hS trivial hl.1 rfl (Nat.le_of_ble_eq_true rfl) dX1_heightAt_1 ⟨Nat.le_of_ble_eq_true rfl, Nat.le_of_ble_eq_true rfl⟩)

abbrev R_xc_row_a : Room := { frames := 7, cells := 1, slots := 6, locals := 110 }
noncomputable def f_xc_row_a (x0 : Int32) (x1 : Int32) (x2 : Int32) : Option (Nat) :=
  Option.bind (f_X1_isIn x0 0 2) fun o1 =>
  lt (fun (v2 : Bool) =>
  f_xc_fit v2
  ) fun K3 =>
  lt (fun (_u : Unit) =>
  K3 false
  ) fun K5 =>
  (if o1 = true then
    Option.bind (f_X1_isIn x1 (-32768) 32768) fun o7 =>
    (if o7 = true then
      Option.bind (f_X1_isIn x2 1 16) fun o9 =>
      (if o9 = true then
        K3 true
      else
        K5 ()
      )
    else
      K5 ()
    )
  else
    K5 ()
  )
theorem hd_xc_row_a : Hd yX1_mustBeRow 3 := by unfold Hd; decide +kernel
set_option maxHeartbeats 4000000 in
set_option maxRecDepth 100000 in
theorem m_xc_row_a {l : Launch} (hfl : l.stackTraces = false) {D : DD}   (x0 : Int32) (x1 : Int32) (x2 : Int32) (r : Nat) (h : f_xc_row_a x0 x1 x2 = some r) : MX l D yX1_mustBeRow cX1_mustBeRow 3 none 7 110 [.int x0, .int x1, .int x2] NoPre r := by
  refine MX.start (by decide +kernel) (Nat.le_of_ble_eq_true rfl) ?_
  intro p e s m below meth c ls hC hout hS hp hl
  obtain ⟨hx, hb, hr, hlk, hml, hown, hts, hnm⟩ := id hC
  have hl : lv_has ls 3 [(0, .int x0), (1, .int x1), (2, .int x2)] := hl
  unfold f_xc_row_a at h
  have hS0 := hS
  obtain ⟨A, eA⟩ : ∃ A : Array Value, A = [.int x0, .int x1, .int x2].toArray := ⟨_, rfl⟩
  rw [← eA] at hC hts ⊢
  obtain ⟨Q, eQ⟩ : ∃ Q : State → Prop, Q = vx_MQ below NoRet (XQ D r) A s 1 6 (fun q => dB D ≤ q) := ⟨_, rfl⟩
  show W p l e R_xc_row_a s m A below meth c s.heap [] 0 0 _ _
  rw [← eQ]
  refine lv_iload_n hx hb dX1_mustBeRow_0 rfl (lv_at hl 0 rfl) ?_
  refine lv_iconst (v := 0) hx hb dX1_mustBeRow_1 (by decide) ?_
  refine lv_iconst (v := 2) hx hb dX1_mustBeRow_2 (by decide) ?_
  obtain ⟨o1, eo1, h⟩ := bind_step h
  refine r_cp (r_runS (rest := []) (As := [.int x0, .int 0, .int 2]) hC 3 (m_X1_isIn   x0 0 2 o1 eo1) q395 q396 q46 q397 hd_X1_isIn rfl ⟨Nat.le_of_ble_eq_true rfl, Nat.le_of_ble_eq_true rfl⟩ hS trivial hl.1 rfl (Nat.le_of_ble_eq_true rfl) dX1_mustBeRow_3 ⟨Nat.le_of_ble_eq_true rfl, Nat.le_of_ble_eq_true rfl⟩) ?_
  obtain ⟨K3, eK3, h⟩ := lt_step h
  have HK3 : ∀ (v2 : Bool) (h : K3 v2 = some r)  (ls : Array Slot) (hl : lv_has ls 3 [(1, .int x1), (2, .int x2)]), W p l e R_xc_row_a s m A below meth c s.heap [] 0 0 Q (F0 m 36 ls [.int (bI v2)]) := by
    intro v2 h  ls hl
    subst eK3
    rw [eQ]
    exact r_xp hlk hout (r_xS (rest := []) (As := [.int (bI v2)]) hC 1 (m_xc_fit hfl   v2 _ h) q1230 q1231 q46 q1232 hd_xc_fit rfl ⟨Nat.le_of_ble_eq_true rfl, Nat.le_of_ble_eq_true rfl⟩ hS trivial hl.1 rfl (Nat.le_of_ble_eq_true rfl) dX1_mustBeRow_36 ⟨Nat.le_of_ble_eq_true rfl, Nat.le_of_ble_eq_true rfl⟩)
  clear eK3
  obtain ⟨K5, eK5, h⟩ := lt_step h
  have HK5 : ∀  (h : K5 () = some r)  (ls : Array Slot) (hl : lv_has ls 3 [(1, .int x1), (2, .int x2)]), W p l e R_xc_row_a s m A below meth c s.heap [] 0 0 Q (F0 m 35 ls []) := by
    intro h  ls hl
    subst eK5
    refine lv_iconst (v := 0) hx hb dX1_mustBeRow_35 (by decide) ?_
    exact HK3 false h  ls (lv_sub hl [0, 1] rfl)
  clear eK5
  refine r_ifz_eq (tgt := 35) hx hb dX1_mustBeRow_6 (by decide) (fun c6 => ?_) (fun c6 => ?_)
  · have h := it_neg h (by rw [c6]; decide)
    exact HK5  h  ls (lv_sub hl [1, 2] rfl)
  · have h := it_pos h (by rw [c6])
    refine lv_iload_n hx hb dX1_mustBeRow_9 rfl (lv_at hl 1 rfl) ?_
    refine lv_sipush (v := (-32768)) hx hb dX1_mustBeRow_10 (by decide) ?_
    refine lv_ldc hx hb (v := 32768) hown (hts _ q1352) dX1_mustBeRow_13 ?_
    obtain ⟨o7, eo7, h⟩ := bind_step h
    refine r_cp (r_runS (rest := []) (As := [.int x1, .int (-32768), .int 32768]) hC 3 (m_X1_isIn   x1 (-32768) 32768 o7 eo7) q395 q396 q46 q397 hd_X1_isIn rfl ⟨Nat.le_of_ble_eq_true rfl, Nat.le_of_ble_eq_true rfl⟩ hS trivial hl.1 rfl (Nat.le_of_ble_eq_true rfl) dX1_mustBeRow_15 ⟨Nat.le_of_ble_eq_true rfl, Nat.le_of_ble_eq_true rfl⟩) ?_
    refine r_ifz_eq (tgt := 35) hx hb dX1_mustBeRow_18 (by decide) (fun c8 => ?_) (fun c8 => ?_)
    · have h := it_neg h (by rw [c8]; decide)
      exact HK5  h  ls (lv_sub hl [1, 2] rfl)
    · have h := it_pos h (by rw [c8])
      refine lv_iload_n hx hb dX1_mustBeRow_21 rfl (lv_at hl 2 rfl) ?_
      refine lv_iconst (v := 1) hx hb dX1_mustBeRow_22 (by decide) ?_
      refine lv_bipush (v := 16) hx hb dX1_mustBeRow_23 (by decide) ?_
      obtain ⟨o9, eo9, h⟩ := bind_step h
      refine r_cp (r_runS (rest := []) (As := [.int x2, .int 1, .int 16]) hC 3 (m_X1_isIn   x2 1 16 o9 eo9) q395 q396 q46 q397 hd_X1_isIn rfl ⟨Nat.le_of_ble_eq_true rfl, Nat.le_of_ble_eq_true rfl⟩ hS trivial hl.1 rfl (Nat.le_of_ble_eq_true rfl) dX1_mustBeRow_25 ⟨Nat.le_of_ble_eq_true rfl, Nat.le_of_ble_eq_true rfl⟩) ?_
      refine r_ifz_eq (tgt := 35) hx hb dX1_mustBeRow_28 (by decide) (fun c10 => ?_) (fun c10 => ?_)
      · have h := it_neg h (by rw [c10]; decide)
        exact HK5  h  ls (lv_sub hl [1, 2] rfl)
      · have h := it_pos h (by rw [c10])
        refine lv_iconst (v := 1) hx hb dX1_mustBeRow_31 (by decide) ?_
        refine lv_goto (tgt := 36) hx hb dX1_mustBeRow_32 (by decide) ?_
        exact HK3 true h  ls (lv_sub hl [1, 2] rfl)

abbrev R_xc_row_b : Room := { frames := 7, cells := 1, slots := 6, locals := 110 }
noncomputable def f_xc_row_b (x0 : Int32) (x1 : Int32) (x2 : Int32) : Option (Nat) :=
  Option.bind (f_X1_isIn x0 0 2) fun o1 =>
  lt (fun (v2 : Bool) =>
  Option.bind (f_X1_mustFit v2) fun o4 =>
  lti (x1 + x2) fun v5 =>
  lti (v5 - 1) fun v6 =>
  (if 32768 < v6 then
    f_xc_fit false
  else
    f_xc_fit true
  )
  ) fun K3 =>
  lt (fun (_u : Unit) =>
  K3 false
  ) fun K10 =>
  (if o1 = true then
    Option.bind (f_X1_isIn x1 (-32768) 32768) fun o12 =>
    (if o12 = true then
      Option.bind (f_X1_isIn x2 1 16) fun o14 =>
      (if o14 = true then
        K3 true
      else
        K10 ()
      )
    else
      K10 ()
    )
  else
    K10 ()
  )
theorem hd_xc_row_b : Hd yX1_mustBeRow 3 := by unfold Hd; decide +kernel
set_option maxHeartbeats 4000000 in
set_option maxRecDepth 100000 in
theorem m_xc_row_b {l : Launch} (hfl : l.stackTraces = false) {D : DD}   (x0 : Int32) (x1 : Int32) (x2 : Int32) (r : Nat) (h : f_xc_row_b x0 x1 x2 = some r) : MX l D yX1_mustBeRow cX1_mustBeRow 3 none 7 110 [.int x0, .int x1, .int x2] NoPre r := by
  refine MX.start (by decide +kernel) (Nat.le_of_ble_eq_true rfl) ?_
  intro p e s m below meth c ls hC hout hS hp hl
  obtain ⟨hx, hb, hr, hlk, hml, hown, hts, hnm⟩ := id hC
  have hl : lv_has ls 3 [(0, .int x0), (1, .int x1), (2, .int x2)] := hl
  unfold f_xc_row_b at h
  have hS0 := hS
  obtain ⟨A, eA⟩ : ∃ A : Array Value, A = [.int x0, .int x1, .int x2].toArray := ⟨_, rfl⟩
  rw [← eA] at hC hts ⊢
  obtain ⟨Q, eQ⟩ : ∃ Q : State → Prop, Q = vx_MQ below NoRet (XQ D r) A s 1 6 (fun q => dB D ≤ q) := ⟨_, rfl⟩
  show W p l e R_xc_row_b s m A below meth c s.heap [] 0 0 _ _
  rw [← eQ]
  refine lv_iload_n hx hb dX1_mustBeRow_0 rfl (lv_at hl 0 rfl) ?_
  refine lv_iconst (v := 0) hx hb dX1_mustBeRow_1 (by decide) ?_
  refine lv_iconst (v := 2) hx hb dX1_mustBeRow_2 (by decide) ?_
  obtain ⟨o1, eo1, h⟩ := bind_step h
  refine r_cp (r_runS (rest := []) (As := [.int x0, .int 0, .int 2]) hC 3 (m_X1_isIn   x0 0 2 o1 eo1) q395 q396 q46 q397 hd_X1_isIn rfl ⟨Nat.le_of_ble_eq_true rfl, Nat.le_of_ble_eq_true rfl⟩ hS trivial hl.1 rfl (Nat.le_of_ble_eq_true rfl) dX1_mustBeRow_3 ⟨Nat.le_of_ble_eq_true rfl, Nat.le_of_ble_eq_true rfl⟩) ?_
  obtain ⟨K3, eK3, h⟩ := lt_step h
  have HK3 : ∀ (v2 : Bool) (h : K3 v2 = some r)  (ls : Array Slot) (hl : lv_has ls 3 [(1, .int x1), (2, .int x2)]), W p l e R_xc_row_b s m A below meth c s.heap [] 0 0 Q (F0 m 36 ls [.int (bI v2)]) := by
    intro v2 h  ls hl
    subst eK3
    obtain ⟨o4, eo4, h⟩ := bind_step h
    refine r_cpv (r_runS (rest := []) (As := [.int (bI v2)]) hC 1 (m_X1_mustFit   v2 o4 eo4) q1230 q1231 q46 q1232 hd_X1_mustFit rfl ⟨Nat.le_of_ble_eq_true rfl, Nat.le_of_ble_eq_true rfl⟩ hS trivial hl.1 rfl (Nat.le_of_ble_eq_true rfl) dX1_mustBeRow_36 ⟨Nat.le_of_ble_eq_true rfl, Nat.le_of_ble_eq_true rfl⟩) ?_
    refine lv_iload_n hx hb dX1_mustBeRow_39 rfl (lv_at hl 0 rfl) ?_
    refine lv_iload_n hx hb dX1_mustBeRow_40 rfl (lv_at hl 1 rfl) ?_
    obtain ⟨v5, ev5, h⟩ := lti_step h
    refine r_iadd hx hb ev5 dX1_mustBeRow_41 ?_
    refine lv_iconst (v := 1) hx hb dX1_mustBeRow_42 (by decide) ?_
    obtain ⟨v6, ev6, h⟩ := lti_step h
    refine r_isub hx hb ev6 dX1_mustBeRow_43 ?_
    refine lv_ldc hx hb (v := 32768) hown (hts _ q1352) dX1_mustBeRow_44 ?_
    refine lv_icmp_gt (tgt := 53) hx hb dX1_mustBeRow_46 (by decide) (fun c7 => ?_) (fun c7 => ?_)
    · have h := it_pos h c7
      refine lv_iconst (v := 0) hx hb dX1_mustBeRow_53 (by decide) ?_
      rw [eQ]
      exact r_xp hlk hout (r_xS (rest := []) (As := [.int 0]) hC 1 (m_xc_fit hfl   false _ h) q1230 q1231 q46 q1232 hd_xc_fit rfl ⟨Nat.le_of_ble_eq_true rfl, Nat.le_of_ble_eq_true rfl⟩ hS trivial hl.1 rfl (Nat.le_of_ble_eq_true rfl) dX1_mustBeRow_54 ⟨Nat.le_of_ble_eq_true rfl, Nat.le_of_ble_eq_true rfl⟩)
    · have h := it_neg h c7
      refine lv_iconst (v := 1) hx hb dX1_mustBeRow_49 (by decide) ?_
      refine lv_goto (tgt := 54) hx hb dX1_mustBeRow_50 (by decide) ?_
      rw [eQ]
      exact r_xp hlk hout (r_xS (rest := []) (As := [.int 1]) hC 1 (m_xc_fit hfl   true _ h) q1230 q1231 q46 q1232 hd_xc_fit rfl ⟨Nat.le_of_ble_eq_true rfl, Nat.le_of_ble_eq_true rfl⟩ hS trivial hl.1 rfl (Nat.le_of_ble_eq_true rfl) dX1_mustBeRow_54 ⟨Nat.le_of_ble_eq_true rfl, Nat.le_of_ble_eq_true rfl⟩)
  clear eK3
  obtain ⟨K10, eK10, h⟩ := lt_step h
  have HK10 : ∀  (h : K10 () = some r)  (ls : Array Slot) (hl : lv_has ls 3 [(1, .int x1), (2, .int x2)]), W p l e R_xc_row_b s m A below meth c s.heap [] 0 0 Q (F0 m 35 ls []) := by
    intro h  ls hl
    subst eK10
    refine lv_iconst (v := 0) hx hb dX1_mustBeRow_35 (by decide) ?_
    exact HK3 false h  ls (lv_sub hl [0, 1] rfl)
  clear eK10
  refine r_ifz_eq (tgt := 35) hx hb dX1_mustBeRow_6 (by decide) (fun c11 => ?_) (fun c11 => ?_)
  · have h := it_neg h (by rw [c11]; decide)
    exact HK10  h  ls (lv_sub hl [1, 2] rfl)
  · have h := it_pos h (by rw [c11])
    refine lv_iload_n hx hb dX1_mustBeRow_9 rfl (lv_at hl 1 rfl) ?_
    refine lv_sipush (v := (-32768)) hx hb dX1_mustBeRow_10 (by decide) ?_
    refine lv_ldc hx hb (v := 32768) hown (hts _ q1352) dX1_mustBeRow_13 ?_
    obtain ⟨o12, eo12, h⟩ := bind_step h
    refine r_cp (r_runS (rest := []) (As := [.int x1, .int (-32768), .int 32768]) hC 3 (m_X1_isIn   x1 (-32768) 32768 o12 eo12) q395 q396 q46 q397 hd_X1_isIn rfl ⟨Nat.le_of_ble_eq_true rfl, Nat.le_of_ble_eq_true rfl⟩ hS trivial hl.1 rfl (Nat.le_of_ble_eq_true rfl) dX1_mustBeRow_15 ⟨Nat.le_of_ble_eq_true rfl, Nat.le_of_ble_eq_true rfl⟩) ?_
    refine r_ifz_eq (tgt := 35) hx hb dX1_mustBeRow_18 (by decide) (fun c13 => ?_) (fun c13 => ?_)
    · have h := it_neg h (by rw [c13]; decide)
      exact HK10  h  ls (lv_sub hl [1, 2] rfl)
    · have h := it_pos h (by rw [c13])
      refine lv_iload_n hx hb dX1_mustBeRow_21 rfl (lv_at hl 2 rfl) ?_
      refine lv_iconst (v := 1) hx hb dX1_mustBeRow_22 (by decide) ?_
      refine lv_bipush (v := 16) hx hb dX1_mustBeRow_23 (by decide) ?_
      obtain ⟨o14, eo14, h⟩ := bind_step h
      refine r_cp (r_runS (rest := []) (As := [.int x2, .int 1, .int 16]) hC 3 (m_X1_isIn   x2 1 16 o14 eo14) q395 q396 q46 q397 hd_X1_isIn rfl ⟨Nat.le_of_ble_eq_true rfl, Nat.le_of_ble_eq_true rfl⟩ hS trivial hl.1 rfl (Nat.le_of_ble_eq_true rfl) dX1_mustBeRow_25 ⟨Nat.le_of_ble_eq_true rfl, Nat.le_of_ble_eq_true rfl⟩) ?_
      refine r_ifz_eq (tgt := 35) hx hb dX1_mustBeRow_28 (by decide) (fun c15 => ?_) (fun c15 => ?_)
      · have h := it_neg h (by rw [c15]; decide)
        exact HK10  h  ls (lv_sub hl [1, 2] rfl)
      · have h := it_pos h (by rw [c15])
        refine lv_iconst (v := 1) hx hb dX1_mustBeRow_31 (by decide) ?_
        refine lv_goto (tgt := 36) hx hb dX1_mustBeRow_32 (by decide) ?_
        exact HK3 true h  ls (lv_sub hl [1, 2] rfl)

abbrev R_xc_eighths_c : Room := { frames := 7, cells := 1, slots := 6, locals := 110 }
noncomputable def f_xc_eighths_c (x0r0c : Nat → UInt64) (x0r1c : Nat → UInt64) (x0r2c : Nat → Int32) (x0f3 : Int32) (x0f4 : Int32) (x0f5 : Int32) (x0f6 : Int32) (x1 : Int32) (x2 : Int32) : Option (Nat) :=
  f_xc_cell x1
theorem hd_xc_eighths_c : Hd yX1_eighths 2 := by unfold Hd; decide +kernel
set_option maxHeartbeats 4000000 in
set_option maxRecDepth 100000 in
theorem m_xc_eighths_c {l : Launch} (hfl : l.stackTraces = false) {D : DD} (x0 : Nat) (x0r0 : Nat) (x0r1 : Nat) (x0r2 : Nat)  (x0r0c : Nat → UInt64) (x0r1c : Nat → UInt64) (x0r2c : Nat → Int32) (x0f3 : Int32) (x0f4 : Int32) (x0f5 : Int32) (x0f6 : Int32) (x1 : Int32) (x2 : Int32) (r : Nat) (h : f_xc_eighths_c x0r0c x0r1c x0r2c x0f3 x0f4 x0f5 x0f6 x1 x2 = some r) : MX l D yX1_eighths cX1_eighths 3 (some .int) 7 110 [.ref x0, .int x1, .int x2] (fun H => ON D 0 x0 [.ref x0r0, .ref x0r1, .ref x0r2, .int x0f3, .int x0f4, .int x0f5, .int x0f6] H ∧ aD D x0r0 8 x0r0c H ∧ aD D x0r1 8 x0r1c H ∧ aZ D x0r2 8 x0r2c H) r := by
  refine MX.start (by decide +kernel) (Nat.le_of_ble_eq_true rfl) ?_
  intro p e s m below meth c ls hC hout hS hp hl
  obtain ⟨h_x0, h_x0r0, h_x0r1, h_x0r2⟩ := hp
  obtain ⟨hx, hb, hr, hlk, hml, hown, hts, hnm⟩ := id hC
  have hl : lv_has ls 3 [(0, .ref x0), (1, .int x1), (2, .int x2)] := hl
  unfold f_xc_eighths_c at h
  have hS0 := hS
  obtain ⟨A, eA⟩ : ∃ A : Array Value, A = [.ref x0, .int x1, .int x2].toArray := ⟨_, rfl⟩
  rw [← eA] at hC hts ⊢
  obtain ⟨Q, eQ⟩ : ∃ Q : State → Prop, Q = vx_MQ below NoRet (XQ D r) A s 1 6 (fun q => dB D ≤ q) := ⟨_, rfl⟩
  show W p l e R_xc_eighths_c s m A below meth c s.heap [] 0 0 _ _
  rw [← eQ]
  refine lv_iload_n hx hb dX1_eighths_0 rfl (lv_at hl 1 rfl) ?_
  rw [eQ]
  exact r_xp hlk hout (r_xS (rest := []) (As := [.int x1]) hC 1 (m_xc_cell hfl   x1 _ h) q956 q957 q46 q958 hd_xc_cell rfl ⟨Nat.le_of_ble_eq_true rfl, Nat.le_of_ble_eq_true rfl⟩ hS trivial hl.1 rfl (Nat.le_of_ble_eq_true rfl) dX1_eighths_1 ⟨Nat.le_of_ble_eq_true rfl, Nat.le_of_ble_eq_true rfl⟩)

abbrev R_xc_eighths_f : Room := { frames := 7, cells := 1, slots := 6, locals := 110 }
noncomputable def f_xc_eighths_f (x0r0c : Nat → UInt64) (x0r1c : Nat → UInt64) (x0r2c : Nat → Int32) (x0f3 : Int32) (x0f4 : Int32) (x0f5 : Int32) (x0f6 : Int32) (x1 : Int32) (x2 : Int32) : Option (Nat) :=
  Option.bind (f_X1_mustBeCell x1) fun o1 =>
  Option.bind (f_X1_isIn x2 (-32768) 32768) fun o2 =>
  f_xc_fit o2
theorem hd_xc_eighths_f : Hd yX1_eighths 2 := by unfold Hd; decide +kernel
set_option maxHeartbeats 4000000 in
set_option maxRecDepth 100000 in
theorem m_xc_eighths_f {l : Launch} (hfl : l.stackTraces = false) {D : DD} (x0 : Nat) (x0r0 : Nat) (x0r1 : Nat) (x0r2 : Nat)  (x0r0c : Nat → UInt64) (x0r1c : Nat → UInt64) (x0r2c : Nat → Int32) (x0f3 : Int32) (x0f4 : Int32) (x0f5 : Int32) (x0f6 : Int32) (x1 : Int32) (x2 : Int32) (r : Nat) (h : f_xc_eighths_f x0r0c x0r1c x0r2c x0f3 x0f4 x0f5 x0f6 x1 x2 = some r) : MX l D yX1_eighths cX1_eighths 3 (some .int) 7 110 [.ref x0, .int x1, .int x2] (fun H => ON D 0 x0 [.ref x0r0, .ref x0r1, .ref x0r2, .int x0f3, .int x0f4, .int x0f5, .int x0f6] H ∧ aD D x0r0 8 x0r0c H ∧ aD D x0r1 8 x0r1c H ∧ aZ D x0r2 8 x0r2c H) r := by
  refine MX.start (by decide +kernel) (Nat.le_of_ble_eq_true rfl) ?_
  intro p e s m below meth c ls hC hout hS hp hl
  obtain ⟨h_x0, h_x0r0, h_x0r1, h_x0r2⟩ := hp
  obtain ⟨hx, hb, hr, hlk, hml, hown, hts, hnm⟩ := id hC
  have hl : lv_has ls 3 [(0, .ref x0), (1, .int x1), (2, .int x2)] := hl
  unfold f_xc_eighths_f at h
  have hS0 := hS
  obtain ⟨A, eA⟩ : ∃ A : Array Value, A = [.ref x0, .int x1, .int x2].toArray := ⟨_, rfl⟩
  rw [← eA] at hC hts ⊢
  obtain ⟨Q, eQ⟩ : ∃ Q : State → Prop, Q = vx_MQ below NoRet (XQ D r) A s 1 6 (fun q => dB D ≤ q) := ⟨_, rfl⟩
  show W p l e R_xc_eighths_f s m A below meth c s.heap [] 0 0 _ _
  rw [← eQ]
  refine lv_iload_n hx hb dX1_eighths_0 rfl (lv_at hl 1 rfl) ?_
  obtain ⟨o1, eo1, h⟩ := bind_step h
  refine r_cpv (r_runS (rest := []) (As := [.int x1]) hC 1 (m_X1_mustBeCell   x1 o1 eo1) q956 q957 q46 q958 hd_X1_mustBeCell rfl ⟨Nat.le_of_ble_eq_true rfl, Nat.le_of_ble_eq_true rfl⟩ hS trivial hl.1 rfl (Nat.le_of_ble_eq_true rfl) dX1_eighths_1 ⟨Nat.le_of_ble_eq_true rfl, Nat.le_of_ble_eq_true rfl⟩) ?_
  refine lv_iload_n hx hb dX1_eighths_4 rfl (lv_at hl 2 rfl) ?_
  refine lv_sipush (v := (-32768)) hx hb dX1_eighths_5 (by decide) ?_
  refine lv_ldc hx hb (v := 32768) hown (hts _ q1352) dX1_eighths_8 ?_
  obtain ⟨o2, eo2, h⟩ := bind_step h
  refine r_cp (r_runS (rest := []) (As := [.int x2, .int (-32768), .int 32768]) hC 3 (m_X1_isIn   x2 (-32768) 32768 o2 eo2) q395 q396 q46 q397 hd_X1_isIn rfl ⟨Nat.le_of_ble_eq_true rfl, Nat.le_of_ble_eq_true rfl⟩ hS trivial hl.1 rfl (Nat.le_of_ble_eq_true rfl) dX1_eighths_10 ⟨Nat.le_of_ble_eq_true rfl, Nat.le_of_ble_eq_true rfl⟩) ?_
  rw [eQ]
  exact r_xp hlk hout (r_xS (rest := []) (As := [.int (bI o2)]) hC 1 (m_xc_fit hfl   o2 _ h) q1230 q1231 q46 q1232 hd_xc_fit rfl ⟨Nat.le_of_ble_eq_true rfl, Nat.le_of_ble_eq_true rfl⟩ hS trivial hl.1 rfl (Nat.le_of_ble_eq_true rfl) dX1_eighths_13 ⟨Nat.le_of_ble_eq_true rfl, Nat.le_of_ble_eq_true rfl⟩)

abbrev R_xc_great : Room := { frames := 7, cells := 1, slots := 6, locals := 110 }
noncomputable def f_xc_great (x0r0c : Nat → UInt64) (x0r1c : Nat → UInt64) (x0r2c : Nat → Int32) (x0f3 : Int32) (x0f4 : Int32) (x0f5 : Int32) (x0f6 : Int32) (x1 : Int32) (x2 : Int32) (x3 : Int32) (x4 : Bool) : Option (Nat) :=
  Option.bind (f_X1_mustBeCell x1) fun o1 =>
  Option.bind (f_X1_isIn x2 33 64) fun o2 =>
  lt (fun (v3 : Bool) =>
  f_xc_fit v3
  ) fun K4 =>
  lt (fun (_u : Unit) =>
  K4 false
  ) fun K6 =>
  (if o2 = true then
    Option.bind (f_X1_isIn x3 8 44) fun o8 =>
    (if o8 = true then
      K4 true
    else
      K6 ()
    )
  else
    K6 ()
  )
theorem hd_xc_great : Hd yX1_great 4 := by unfold Hd; decide +kernel
set_option maxHeartbeats 4000000 in
set_option maxRecDepth 100000 in
theorem m_xc_great {l : Launch} (hfl : l.stackTraces = false) {D : DD} (x0 : Nat) (x0r0 : Nat) (x0r1 : Nat) (x0r2 : Nat)  (x0r0c : Nat → UInt64) (x0r1c : Nat → UInt64) (x0r2c : Nat → Int32) (x0f3 : Int32) (x0f4 : Int32) (x0f5 : Int32) (x0f6 : Int32) (x1 : Int32) (x2 : Int32) (x3 : Int32) (x4 : Bool) (r : Nat) (h : f_xc_great x0r0c x0r1c x0r2c x0f3 x0f4 x0f5 x0f6 x1 x2 x3 x4 = some r) : MX l D yX1_great cX1_great 7 (some .int) 7 110 [.ref x0, .int x1, .int x2, .int x3, .int (bI x4)] (fun H => ON D 0 x0 [.ref x0r0, .ref x0r1, .ref x0r2, .int x0f3, .int x0f4, .int x0f5, .int x0f6] H ∧ aD D x0r0 8 x0r0c H ∧ aD D x0r1 8 x0r1c H ∧ aZ D x0r2 8 x0r2c H) r := by
  refine MX.start (by decide +kernel) (Nat.le_of_ble_eq_true rfl) ?_
  intro p e s m below meth c ls hC hout hS hp hl
  obtain ⟨h_x0, h_x0r0, h_x0r1, h_x0r2⟩ := hp
  obtain ⟨hx, hb, hr, hlk, hml, hown, hts, hnm⟩ := id hC
  have hl : lv_has ls 7 [(0, .ref x0), (1, .int x1), (2, .int x2), (3, .int x3), (4, .int (bI x4))] := hl
  unfold f_xc_great at h
  have hS0 := hS
  obtain ⟨A, eA⟩ : ∃ A : Array Value, A = [.ref x0, .int x1, .int x2, .int x3, .int (bI x4)].toArray := ⟨_, rfl⟩
  rw [← eA] at hC hts ⊢
  obtain ⟨Q, eQ⟩ : ∃ Q : State → Prop, Q = vx_MQ below NoRet (XQ D r) A s 1 6 (fun q => dB D ≤ q) := ⟨_, rfl⟩
  show W p l e R_xc_great s m A below meth c s.heap [] 0 0 _ _
  rw [← eQ]
  refine lv_iload_n hx hb dX1_great_0 rfl (lv_at hl 1 rfl) ?_
  obtain ⟨o1, eo1, h⟩ := bind_step h
  refine r_cpv (r_runS (rest := []) (As := [.int x1]) hC 1 (m_X1_mustBeCell   x1 o1 eo1) q956 q957 q46 q958 hd_X1_mustBeCell rfl ⟨Nat.le_of_ble_eq_true rfl, Nat.le_of_ble_eq_true rfl⟩ hS trivial hl.1 rfl (Nat.le_of_ble_eq_true rfl) dX1_great_1 ⟨Nat.le_of_ble_eq_true rfl, Nat.le_of_ble_eq_true rfl⟩) ?_
  refine lv_iload_n hx hb dX1_great_4 rfl (lv_at hl 2 rfl) ?_
  refine lv_bipush (v := 33) hx hb dX1_great_5 (by decide) ?_
  refine lv_bipush (v := 64) hx hb dX1_great_7 (by decide) ?_
  obtain ⟨o2, eo2, h⟩ := bind_step h
  refine r_cp (r_runS (rest := []) (As := [.int x2, .int 33, .int 64]) hC 3 (m_X1_isIn   x2 33 64 o2 eo2) q395 q396 q46 q397 hd_X1_isIn rfl ⟨Nat.le_of_ble_eq_true rfl, Nat.le_of_ble_eq_true rfl⟩ hS trivial hl.1 rfl (Nat.le_of_ble_eq_true rfl) dX1_great_9 ⟨Nat.le_of_ble_eq_true rfl, Nat.le_of_ble_eq_true rfl⟩) ?_
  obtain ⟨K4, eK4, h⟩ := lt_step h
  have HK4 : ∀ (v3 : Bool) (h : K4 v3 = some r)  (ls : Array Slot) (hl : lv_has ls 7 [(0, .ref x0), (1, .int x1), (2, .int x2), (3, .int x3), (4, .int (bI x4))]), W p l e R_xc_great s m A below meth c s.heap [] 0 0 Q (F0 m 31 ls [.int (bI v3)]) := by
    intro v3 h  ls hl
    subst eK4
    rw [eQ]
    exact r_xp hlk hout (r_xS (rest := []) (As := [.int (bI v3)]) hC 1 (m_xc_fit hfl   v3 _ h) q1230 q1231 q46 q1232 hd_xc_fit rfl ⟨Nat.le_of_ble_eq_true rfl, Nat.le_of_ble_eq_true rfl⟩ hS trivial hl.1 rfl (Nat.le_of_ble_eq_true rfl) dX1_great_31 ⟨Nat.le_of_ble_eq_true rfl, Nat.le_of_ble_eq_true rfl⟩)
  clear eK4
  obtain ⟨K6, eK6, h⟩ := lt_step h
  have HK6 : ∀  (h : K6 () = some r)  (ls : Array Slot) (hl : lv_has ls 7 [(0, .ref x0), (1, .int x1), (2, .int x2), (3, .int x3), (4, .int (bI x4))]), W p l e R_xc_great s m A below meth c s.heap [] 0 0 Q (F0 m 30 ls []) := by
    intro h  ls hl
    subst eK6
    refine lv_iconst (v := 0) hx hb dX1_great_30 (by decide) ?_
    exact HK4 false h  ls (lv_sub hl [0, 1, 2, 3, 4] rfl)
  clear eK6
  refine r_ifz_eq (tgt := 30) hx hb dX1_great_12 (by decide) (fun c7 => ?_) (fun c7 => ?_)
  · have h := it_neg h (by rw [c7]; decide)
    exact HK6  h  ls (lv_sub hl [0, 1, 2, 3, 4] rfl)
  · have h := it_pos h (by rw [c7])
    refine lv_iload_n hx hb dX1_great_15 rfl (lv_at hl 3 rfl) ?_
    refine lv_bipush (v := 8) hx hb dX1_great_16 (by decide) ?_
    refine lv_bipush (v := 44) hx hb dX1_great_18 (by decide) ?_
    obtain ⟨o8, eo8, h⟩ := bind_step h
    refine r_cp (r_runS (rest := []) (As := [.int x3, .int 8, .int 44]) hC 3 (m_X1_isIn   x3 8 44 o8 eo8) q395 q396 q46 q397 hd_X1_isIn rfl ⟨Nat.le_of_ble_eq_true rfl, Nat.le_of_ble_eq_true rfl⟩ hS trivial hl.1 rfl (Nat.le_of_ble_eq_true rfl) dX1_great_20 ⟨Nat.le_of_ble_eq_true rfl, Nat.le_of_ble_eq_true rfl⟩) ?_
    refine r_ifz_eq (tgt := 30) hx hb dX1_great_23 (by decide) (fun c9 => ?_) (fun c9 => ?_)
    · have h := it_neg h (by rw [c9]; decide)
      exact HK6  h  ls (lv_sub hl [0, 1, 2, 3, 4] rfl)
    · have h := it_pos h (by rw [c9])
      refine lv_iconst (v := 1) hx hb dX1_great_26 (by decide) ?_
      refine lv_goto (tgt := 31) hx hb dX1_great_27 (by decide) ?_
      exact HK4 true h  ls (lv_sub hl [0, 1, 2, 3, 4] rfl)

abbrev R_xc_angleSum : Room := { frames := 8, cells := 1, slots := 6, locals := 131 }
noncomputable def f_xc_angleSum (x0r0c : Nat → UInt64) (x0r1c : Nat → UInt64) (x0r2c : Nat → Int32) (x0f3 : Int32) (x0f4 : Int32) (x0f5 : Int32) (x0f6 : Int32) (x1 : Int32) (x2 : Int32) (x3 : Int32) : Option (Nat) :=
  Option.bind (f_X1_angleAt x0r0c x0r1c x0r2c x0f3 x0f4 x0f5 x0f6 x1) fun o1 =>
  f_xc_angleAt x0r0c x0r1c x0r2c x0f3 x0f4 x0f5 x0f6 x2
theorem hd_xc_angleSum : Hd yX1_angleSum 3 := by unfold Hd; decide +kernel
set_option maxHeartbeats 4000000 in
set_option maxRecDepth 100000 in
theorem m_xc_angleSum {l : Launch} (hfl : l.stackTraces = false) {D : DD} (x0 : Nat) (x0r0 : Nat) (x0r1 : Nat) (x0r2 : Nat)  (x0r0c : Nat → UInt64) (x0r1c : Nat → UInt64) (x0r2c : Nat → Int32) (x0f3 : Int32) (x0f4 : Int32) (x0f5 : Int32) (x0f6 : Int32) (x1 : Int32) (x2 : Int32) (x3 : Int32) (r : Nat) (h : f_xc_angleSum x0r0c x0r1c x0r2c x0f3 x0f4 x0f5 x0f6 x1 x2 x3 = some r) : MX l D yX1_angleSum cX1_angleSum 11 (some .int) 8 131 [.ref x0, .int x1, .int x2, .int x3] (fun H => ON D 0 x0 [.ref x0r0, .ref x0r1, .ref x0r2, .int x0f3, .int x0f4, .int x0f5, .int x0f6] H ∧ aD D x0r0 8 x0r0c H ∧ aD D x0r1 8 x0r1c H ∧ aZ D x0r2 8 x0r2c H) r := by
  refine MX.start (by decide +kernel) (Nat.le_of_ble_eq_true rfl) ?_
  intro p e s m below meth c ls hC hout hS hp hl
  obtain ⟨h_x0, h_x0r0, h_x0r1, h_x0r2⟩ := hp
  obtain ⟨hx, hb, hr, hlk, hml, hown, hts, hnm⟩ := id hC
  have hl : lv_has ls 11 [(0, .ref x0), (1, .int x1), (2, .int x2), (3, .int x3)] := hl
  unfold f_xc_angleSum at h
  have hS0 := hS
  obtain ⟨A, eA⟩ : ∃ A : Array Value, A = [.ref x0, .int x1, .int x2, .int x3].toArray := ⟨_, rfl⟩
  rw [← eA] at hC hts ⊢
  obtain ⟨Q, eQ⟩ : ∃ Q : State → Prop, Q = vx_MQ below NoRet (XQ D r) A s 1 6 (fun q => dB D ≤ q) := ⟨_, rfl⟩
  show W p l e R_xc_angleSum s m A below meth c s.heap [] 0 0 _ _
  rw [← eQ]
  refine lv_aload_n hx hb dX1_angleSum_0 rfl (lv_at hl 0 rfl) ?_
  refine lv_iload_n hx hb dX1_angleSum_1 rfl (lv_at hl 1 rfl) ?_
  obtain ⟨o1, eo1, h⟩ := bind_step h
  refine r_cp (r_runV (rest := []) (As := [.int x1]) hC 1 (m_X1_angleAt x0 x0r0 x0r1 x0r2  x0r0c x0r1c x0r2c x0f3 x0f4 x0f5 x0f6 x1 o1 eo1) q952 q954 qs11 q46 q955 (OA.recv hS h_x0.OA (C := RX1) rfl) hd_X1_angleAt rfl ⟨Nat.le_of_ble_eq_true rfl, Nat.le_of_ble_eq_true rfl⟩ hS ⟨h_x0, h_x0r0, h_x0r1, h_x0r2⟩ hl.1 rfl (Nat.le_of_ble_eq_true rfl) dX1_angleSum_2 ⟨Nat.le_of_ble_eq_true rfl, Nat.le_of_ble_eq_true rfl⟩) ?_
  refine lv_dstore (lv' := [(4, .double o1), (0, .ref x0), (1, .int x1), (2, .int x2), (3, .int x3)]) hx hb dX1_angleSum_5 hl (by decide) rfl (fun ls hl => ?_)
  refine lv_aload_n hx hb dX1_angleSum_7 rfl (lv_at hl 1 rfl) ?_
  refine lv_iload_n hx hb dX1_angleSum_8 rfl (lv_at hl 3 rfl) ?_
  rw [eQ]
  exact r_xp hlk hout (r_xV (rest := []) (As := [.int x2]) hC 1 (m_xc_angleAt hfl x0 x0r0 x0r1 x0r2  x0r0c x0r1c x0r2c x0f3 x0f4 x0f5 x0f6 x2 _ h) q952 q954 qs11 q46 q955 (OA.recv hS h_x0.OA (C := RX1) rfl) hd_xc_angleAt rfl ⟨Nat.le_of_ble_eq_true rfl, Nat.le_of_ble_eq_true rfl⟩ hS ⟨h_x0, h_x0r0, h_x0r1, h_x0r2⟩ hl.1 rfl (Nat.le_of_ble_eq_true rfl) dX1_angleSum_9 ⟨Nat.le_of_ble_eq_true rfl, Nat.le_of_ble_eq_true rfl⟩)

abbrev R_xc_sine : Room := { frames := 8, cells := 1, slots := 6, locals := 131 }
noncomputable def f_xc_sine (x0r0c : Nat → UInt64) (x0r1c : Nat → UInt64) (x0r2c : Nat → Int32) (x0f3 : Int32) (x0f4 : Int32) (x0f5 : Int32) (x0f6 : Int32) (x1 : Int32) (x2 : Int32) : Option (Nat) :=
  f_xc_angleAt x0r0c x0r1c x0r2c x0f3 x0f4 x0f5 x0f6 x1
theorem hd_xc_sine : Hd yX1_sine 2 := by unfold Hd; decide +kernel
set_option maxHeartbeats 4000000 in
set_option maxRecDepth 100000 in
theorem m_xc_sine {l : Launch} (hfl : l.stackTraces = false) {D : DD} (x0 : Nat) (x0r0 : Nat) (x0r1 : Nat) (x0r2 : Nat)  (x0r0c : Nat → UInt64) (x0r1c : Nat → UInt64) (x0r2c : Nat → Int32) (x0f3 : Int32) (x0f4 : Int32) (x0f5 : Int32) (x0f6 : Int32) (x1 : Int32) (x2 : Int32) (r : Nat) (h : f_xc_sine x0r0c x0r1c x0r2c x0f3 x0f4 x0f5 x0f6 x1 x2 = some r) : MX l D yX1_sine cX1_sine 3 (some .int) 8 131 [.ref x0, .int x1, .int x2] (fun H => ON D 0 x0 [.ref x0r0, .ref x0r1, .ref x0r2, .int x0f3, .int x0f4, .int x0f5, .int x0f6] H ∧ aD D x0r0 8 x0r0c H ∧ aD D x0r1 8 x0r1c H ∧ aZ D x0r2 8 x0r2c H) r := by
  refine MX.start (by decide +kernel) (Nat.le_of_ble_eq_true rfl) ?_
  intro p e s m below meth c ls hC hout hS hp hl
  obtain ⟨h_x0, h_x0r0, h_x0r1, h_x0r2⟩ := hp
  obtain ⟨hx, hb, hr, hlk, hml, hown, hts, hnm⟩ := id hC
  have hl : lv_has ls 3 [(0, .ref x0), (1, .int x1), (2, .int x2)] := hl
  unfold f_xc_sine at h
  have hS0 := hS
  obtain ⟨A, eA⟩ : ∃ A : Array Value, A = [.ref x0, .int x1, .int x2].toArray := ⟨_, rfl⟩
  rw [← eA] at hC hts ⊢
  obtain ⟨Q, eQ⟩ : ∃ Q : State → Prop, Q = vx_MQ below NoRet (XQ D r) A s 1 6 (fun q => dB D ≤ q) := ⟨_, rfl⟩
  show W p l e R_xc_sine s m A below meth c s.heap [] 0 0 _ _
  rw [← eQ]
  refine lv_aload_n hx hb dX1_sine_0 rfl (lv_at hl 0 rfl) ?_
  refine lv_iload_n hx hb dX1_sine_1 rfl (lv_at hl 2 rfl) ?_
  refine lv_aload_n hx hb dX1_sine_2 rfl (lv_at hl 0 rfl) ?_
  refine lv_iload_n hx hb dX1_sine_3 rfl (lv_at hl 1 rfl) ?_
  rw [eQ]
  exact r_xp hlk hout (r_xV (rest := [.int x2, .ref x0]) (As := [.int x1]) hC 1 (m_xc_angleAt hfl x0 x0r0 x0r1 x0r2  x0r0c x0r1c x0r2c x0f3 x0f4 x0f5 x0f6 x1 _ h) q952 q954 qs11 q46 q955 (OA.recv hS h_x0.OA (C := RX1) rfl) hd_xc_angleAt rfl ⟨Nat.le_of_ble_eq_true rfl, Nat.le_of_ble_eq_true rfl⟩ hS ⟨h_x0, h_x0r0, h_x0r1, h_x0r2⟩ hl.1 rfl (Nat.le_of_ble_eq_true rfl) dX1_sine_4 ⟨Nat.le_of_ble_eq_true rfl, Nat.le_of_ble_eq_true rfl⟩)

abbrev R_xc_fill : Room := { frames := 7, cells := 1, slots := 6, locals := 110 }
noncomputable def f_xc_fill (x0r0c : Nat → UInt64) (x0r1c : Nat → UInt64) (x0r2c : Nat → Int32) (x0f3 : Int32) (x0f4 : Int32) (x0f5 : Int32) (x0f6 : Int32) (x1 : Int32) : Option (Nat) :=
  Option.bind (f_X1_isIn x1 0 2) fun o1 =>
  f_xc_fit o1
theorem hd_xc_fill : Hd yX1_fill 1 := by unfold Hd; decide +kernel
set_option maxHeartbeats 4000000 in
set_option maxRecDepth 100000 in
theorem m_xc_fill {l : Launch} (hfl : l.stackTraces = false) {D : DD} (x0 : Nat) (x0r0 : Nat) (x0r1 : Nat) (x0r2 : Nat)  (x0r0c : Nat → UInt64) (x0r1c : Nat → UInt64) (x0r2c : Nat → Int32) (x0f3 : Int32) (x0f4 : Int32) (x0f5 : Int32) (x0f6 : Int32) (x1 : Int32) (r : Nat) (h : f_xc_fill x0r0c x0r1c x0r2c x0f3 x0f4 x0f5 x0f6 x1 = some r) : MX l D yX1_fill cX1_fill 6 (some .int) 7 110 [.ref x0, .int x1] (fun H => ON D 0 x0 [.ref x0r0, .ref x0r1, .ref x0r2, .int x0f3, .int x0f4, .int x0f5, .int x0f6] H ∧ aD D x0r0 8 x0r0c H ∧ aD D x0r1 8 x0r1c H ∧ aZ D x0r2 8 x0r2c H) r := by
  refine MX.start (by decide +kernel) (Nat.le_of_ble_eq_true rfl) ?_
  intro p e s m below meth c ls hC hout hS hp hl
  obtain ⟨h_x0, h_x0r0, h_x0r1, h_x0r2⟩ := hp
  obtain ⟨hx, hb, hr, hlk, hml, hown, hts, hnm⟩ := id hC
  have hl : lv_has ls 6 [(0, .ref x0), (1, .int x1)] := hl
  unfold f_xc_fill at h
  have hS0 := hS
  obtain ⟨A, eA⟩ : ∃ A : Array Value, A = [.ref x0, .int x1].toArray := ⟨_, rfl⟩
  rw [← eA] at hC hts ⊢
  obtain ⟨Q, eQ⟩ : ∃ Q : State → Prop, Q = vx_MQ below NoRet (XQ D r) A s 1 6 (fun q => dB D ≤ q) := ⟨_, rfl⟩
  show W p l e R_xc_fill s m A below meth c s.heap [] 0 0 _ _
  rw [← eQ]
  refine lv_iload_n hx hb dX1_fill_0 rfl (lv_at hl 1 rfl) ?_
  refine lv_iconst (v := 0) hx hb dX1_fill_1 (by decide) ?_
  refine lv_iconst (v := 2) hx hb dX1_fill_2 (by decide) ?_
  obtain ⟨o1, eo1, h⟩ := bind_step h
  refine r_cp (r_runS (rest := []) (As := [.int x1, .int 0, .int 2]) hC 3 (m_X1_isIn   x1 0 2 o1 eo1) q395 q396 q46 q397 hd_X1_isIn rfl ⟨Nat.le_of_ble_eq_true rfl, Nat.le_of_ble_eq_true rfl⟩ hS trivial hl.1 rfl (Nat.le_of_ble_eq_true rfl) dX1_fill_3 ⟨Nat.le_of_ble_eq_true rfl, Nat.le_of_ble_eq_true rfl⟩) ?_
  rw [eQ]
  exact r_xp hlk hout (r_xS (rest := []) (As := [.int (bI o1)]) hC 1 (m_xc_fit hfl   o1 _ h) q1230 q1231 q46 q1232 hd_xc_fit rfl ⟨Nat.le_of_ble_eq_true rfl, Nat.le_of_ble_eq_true rfl⟩ hS trivial hl.1 rfl (Nat.le_of_ble_eq_true rfl) dX1_fill_6 ⟨Nat.le_of_ble_eq_true rfl, Nat.le_of_ble_eq_true rfl⟩)

abbrev R_xc_steps : Room := { frames := 7, cells := 1, slots := 6, locals := 110 }
noncomputable def f_xc_steps (x0r0c : Nat → UInt64) (x0r1c : Nat → UInt64) (x0r2c : Nat → Int32) (x0f3 : Int32) (x0f4 : Int32) (x0f5 : Int32) (x0f6 : Int32) (x1 : Int32) (x2 : Int32) : Option (Nat) :=
  Option.bind (f_X1_heightAt x0r0c x0r1c x0r2c x0f3 x0f4 x0f5 x0f6 x1) fun o1 =>
  Option.bind (f_X1_isIn x2 0 30) fun o2 =>
  f_xc_fit o2
theorem hd_xc_steps : Hd yX1_steps 2 := by unfold Hd; decide +kernel
set_option maxHeartbeats 4000000 in
set_option maxRecDepth 100000 in
theorem m_xc_steps {l : Launch} (hfl : l.stackTraces = false) {D : DD} (x0 : Nat) (x0r0 : Nat) (x0r1 : Nat) (x0r2 : Nat)  (x0r0c : Nat → UInt64) (x0r1c : Nat → UInt64) (x0r2c : Nat → Int32) (x0f3 : Int32) (x0f4 : Int32) (x0f5 : Int32) (x0f6 : Int32) (x1 : Int32) (x2 : Int32) (r : Nat) (h : f_xc_steps x0r0c x0r1c x0r2c x0f3 x0f4 x0f5 x0f6 x1 x2 = some r) : MX l D yX1_steps cX1_steps 5 (some .int) 7 110 [.ref x0, .int x1, .int x2] (fun H => ON D 0 x0 [.ref x0r0, .ref x0r1, .ref x0r2, .int x0f3, .int x0f4, .int x0f5, .int x0f6] H ∧ aD D x0r0 8 x0r0c H ∧ aD D x0r1 8 x0r1c H ∧ aZ D x0r2 8 x0r2c H) r := by
  refine MX.start (by decide +kernel) (Nat.le_of_ble_eq_true rfl) ?_
  intro p e s m below meth c ls hC hout hS hp hl
  obtain ⟨h_x0, h_x0r0, h_x0r1, h_x0r2⟩ := hp
  obtain ⟨hx, hb, hr, hlk, hml, hown, hts, hnm⟩ := id hC
  have hl : lv_has ls 5 [(0, .ref x0), (1, .int x1), (2, .int x2)] := hl
  unfold f_xc_steps at h
  have hS0 := hS
  obtain ⟨A, eA⟩ : ∃ A : Array Value, A = [.ref x0, .int x1, .int x2].toArray := ⟨_, rfl⟩
  rw [← eA] at hC hts ⊢
  obtain ⟨Q, eQ⟩ : ∃ Q : State → Prop, Q = vx_MQ below NoRet (XQ D r) A s 1 6 (fun q => dB D ≤ q) := ⟨_, rfl⟩
  show W p l e R_xc_steps s m A below meth c s.heap [] 0 0 _ _
  rw [← eQ]
  refine lv_aload_n hx hb dX1_steps_0 rfl (lv_at hl 0 rfl) ?_
  refine lv_iload_n hx hb dX1_steps_1 rfl (lv_at hl 1 rfl) ?_
  obtain ⟨o1, eo1, h⟩ := bind_step h
  refine r_cp (r_runV (rest := []) (As := [.int x1]) hC 1 (m_X1_heightAt x0 x0r0 x0r1 x0r2  x0r0c x0r1c x0r2c x0f3 x0f4 x0f5 x0f6 x1 o1 eo1) q1202 q1204 qs13 q46 q1205 (OA.recv hS h_x0.OA (C := RX1) rfl) hd_X1_heightAt rfl ⟨Nat.le_of_ble_eq_true rfl, Nat.le_of_ble_eq_true rfl⟩ hS ⟨h_x0, h_x0r0, h_x0r1, h_x0r2⟩ hl.1 rfl (Nat.le_of_ble_eq_true rfl) dX1_steps_2 ⟨Nat.le_of_ble_eq_true rfl, Nat.le_of_ble_eq_true rfl⟩) ?_
  refine lv_dstore_n (lv' := [(3, .double o1), (0, .ref x0), (1, .int x1), (2, .int x2)]) hx hb dX1_steps_5 rfl hl (by decide) rfl (fun ls hl => ?_)
  refine lv_iload_n hx hb dX1_steps_6 rfl (lv_at hl 3 rfl) ?_
  refine lv_iconst (v := 0) hx hb dX1_steps_7 (by decide) ?_
  refine lv_bipush (v := 30) hx hb dX1_steps_8 (by decide) ?_
  obtain ⟨o2, eo2, h⟩ := bind_step h
  refine r_cp (r_runS (rest := []) (As := [.int x2, .int 0, .int 30]) hC 3 (m_X1_isIn   x2 0 30 o2 eo2) q395 q396 q46 q397 hd_X1_isIn rfl ⟨Nat.le_of_ble_eq_true rfl, Nat.le_of_ble_eq_true rfl⟩ hS trivial hl.1 rfl (Nat.le_of_ble_eq_true rfl) dX1_steps_10 ⟨Nat.le_of_ble_eq_true rfl, Nat.le_of_ble_eq_true rfl⟩) ?_
  rw [eQ]
  exact r_xp hlk hout (r_xS (rest := []) (As := [.int (bI o2)]) hC 1 (m_xc_fit hfl   o2 _ h) q1230 q1231 q46 q1232 hd_xc_fit rfl ⟨Nat.le_of_ble_eq_true rfl, Nat.le_of_ble_eq_true rfl⟩ hS trivial hl.1 rfl (Nat.le_of_ble_eq_true rfl) dX1_steps_13 ⟨Nat.le_of_ble_eq_true rfl, Nat.le_of_ble_eq_true rfl⟩)

abbrev R_xc_peak : Room := { frames := 8, cells := 1, slots := 6, locals := 132 }
noncomputable def f_xc_peak (x0r0c : Nat → UInt64) (x0r1c : Nat → UInt64) (x0r2c : Nat → Int32) (x0f3 : Int32) (x0f4 : Int32) (x0f5 : Int32) (x0f6 : Int32) (x1 : Int32) (x2 : Int32) (x3 : Int32) : Option (Nat) :=
  f_xc_row_b x1 x2 x3
theorem hd_xc_peak : Hd yX1_peak 3 := by unfold Hd; decide +kernel
set_option maxHeartbeats 4000000 in
set_option maxRecDepth 100000 in
theorem m_xc_peak {l : Launch} (hfl : l.stackTraces = false) {D : DD} (x0 : Nat) (x0r0 : Nat) (x0r1 : Nat) (x0r2 : Nat)  (x0r0c : Nat → UInt64) (x0r1c : Nat → UInt64) (x0r2c : Nat → Int32) (x0f3 : Int32) (x0f4 : Int32) (x0f5 : Int32) (x0f6 : Int32) (x1 : Int32) (x2 : Int32) (x3 : Int32) (r : Nat) (h : f_xc_peak x0r0c x0r1c x0r2c x0f3 x0f4 x0f5 x0f6 x1 x2 x3 = some r) : MX l D yX1_peak cX1_peak 10 (some .int) 8 132 [.ref x0, .int x1, .int x2, .int x3] (fun H => ON D 0 x0 [.ref x0r0, .ref x0r1, .ref x0r2, .int x0f3, .int x0f4, .int x0f5, .int x0f6] H ∧ aD D x0r0 8 x0r0c H ∧ aD D x0r1 8 x0r1c H ∧ aZ D x0r2 8 x0r2c H) r := by
  refine MX.start (by decide +kernel) (Nat.le_of_ble_eq_true rfl) ?_
  intro p e s m below meth c ls hC hout hS hp hl
  obtain ⟨h_x0, h_x0r0, h_x0r1, h_x0r2⟩ := hp
  obtain ⟨hx, hb, hr, hlk, hml, hown, hts, hnm⟩ := id hC
  have hl : lv_has ls 10 [(0, .ref x0), (1, .int x1), (2, .int x2), (3, .int x3)] := hl
  unfold f_xc_peak at h
  have hS0 := hS
  obtain ⟨A, eA⟩ : ∃ A : Array Value, A = [.ref x0, .int x1, .int x2, .int x3].toArray := ⟨_, rfl⟩
  rw [← eA] at hC hts ⊢
  obtain ⟨Q, eQ⟩ : ∃ Q : State → Prop, Q = vx_MQ below NoRet (XQ D r) A s 1 6 (fun q => dB D ≤ q) := ⟨_, rfl⟩
  show W p l e R_xc_peak s m A below meth c s.heap [] 0 0 _ _
  rw [← eQ]
  refine lv_iload_n hx hb dX1_peak_0 rfl (lv_at hl 1 rfl) ?_
  refine lv_iload_n hx hb dX1_peak_1 rfl (lv_at hl 2 rfl) ?_
  refine lv_iload_n hx hb dX1_peak_2 rfl (lv_at hl 3 rfl) ?_
  rw [eQ]
  exact r_xp hlk hout (r_xS (rest := []) (As := [.int x1, .int x2, .int x3]) hC 3 (m_xc_row_b hfl   x1 x2 x3 _ h) q1390 q1391 q46 q1392 hd_xc_row_b rfl ⟨Nat.le_of_ble_eq_true rfl, Nat.le_of_ble_eq_true rfl⟩ hS trivial hl.1 rfl (Nat.le_of_ble_eq_true rfl) dX1_peak_3 ⟨Nat.le_of_ble_eq_true rfl, Nat.le_of_ble_eq_true rfl⟩)

abbrev R_xc_crossings : Room := { frames := 8, cells := 1, slots := 6, locals := 132 }
noncomputable def f_xc_crossings (x0r0c : Nat → UInt64) (x0r1c : Nat → UInt64) (x0r2c : Nat → Int32) (x0f3 : Int32) (x0f4 : Int32) (x0f5 : Int32) (x0f6 : Int32) (x1 : Int32) (x2 : Int32) (x3 : Int32) : Option (Nat) :=
  f_xc_row_a x1 x2 x3
theorem hd_xc_crossings : Hd yX1_crossings 3 := by unfold Hd; decide +kernel
set_option maxHeartbeats 4000000 in
set_option maxRecDepth 100000 in
theorem m_xc_crossings {l : Launch} (hfl : l.stackTraces = false) {D : DD} (x0 : Nat) (x0r0 : Nat) (x0r1 : Nat) (x0r2 : Nat)  (x0r0c : Nat → UInt64) (x0r1c : Nat → UInt64) (x0r2c : Nat → Int32) (x0f3 : Int32) (x0f4 : Int32) (x0f5 : Int32) (x0f6 : Int32) (x1 : Int32) (x2 : Int32) (x3 : Int32) (r : Nat) (h : f_xc_crossings x0r0c x0r1c x0r2c x0f3 x0f4 x0f5 x0f6 x1 x2 x3 = some r) : MX l D yX1_crossings cX1_crossings 8 (some .int) 8 132 [.ref x0, .int x1, .int x2, .int x3] (fun H => ON D 0 x0 [.ref x0r0, .ref x0r1, .ref x0r2, .int x0f3, .int x0f4, .int x0f5, .int x0f6] H ∧ aD D x0r0 8 x0r0c H ∧ aD D x0r1 8 x0r1c H ∧ aZ D x0r2 8 x0r2c H) r := by
  refine MX.start (by decide +kernel) (Nat.le_of_ble_eq_true rfl) ?_
  intro p e s m below meth c ls hC hout hS hp hl
  obtain ⟨h_x0, h_x0r0, h_x0r1, h_x0r2⟩ := hp
  obtain ⟨hx, hb, hr, hlk, hml, hown, hts, hnm⟩ := id hC
  have hl : lv_has ls 8 [(0, .ref x0), (1, .int x1), (2, .int x2), (3, .int x3)] := hl
  unfold f_xc_crossings at h
  have hS0 := hS
  obtain ⟨A, eA⟩ : ∃ A : Array Value, A = [.ref x0, .int x1, .int x2, .int x3].toArray := ⟨_, rfl⟩
  rw [← eA] at hC hts ⊢
  obtain ⟨Q, eQ⟩ : ∃ Q : State → Prop, Q = vx_MQ below NoRet (XQ D r) A s 1 6 (fun q => dB D ≤ q) := ⟨_, rfl⟩
  show W p l e R_xc_crossings s m A below meth c s.heap [] 0 0 _ _
  rw [← eQ]
  refine lv_iload_n hx hb dX1_crossings_0 rfl (lv_at hl 1 rfl) ?_
  refine lv_iload_n hx hb dX1_crossings_1 rfl (lv_at hl 2 rfl) ?_
  refine lv_iload_n hx hb dX1_crossings_2 rfl (lv_at hl 3 rfl) ?_
  rw [eQ]
  exact r_xp hlk hout (r_xS (rest := []) (As := [.int x1, .int x2, .int x3]) hC 3 (m_xc_row_a hfl   x1 x2 x3 _ h) q1390 q1391 q46 q1392 hd_xc_row_a rfl ⟨Nat.le_of_ble_eq_true rfl, Nat.le_of_ble_eq_true rfl⟩ hS trivial hl.1 rfl (Nat.le_of_ble_eq_true rfl) dX1_crossings_3 ⟨Nat.le_of_ble_eq_true rfl, Nat.le_of_ble_eq_true rfl⟩)

abbrev R_xc_ahead : Room := { frames := 8, cells := 1, slots := 6, locals := 131 }
noncomputable def f_xc_ahead (x0r0c : Nat → UInt64) (x0r1c : Nat → UInt64) (x0r2c : Nat → Int32) (x0f3 : Int32) (x0f4 : Int32) (x0f5 : Int32) (x0f6 : Int32) (x1 : Int32) (x2 : Int32) (x3 : Int32) (x4 : Int32) : Option (Nat) :=
  f_xc_heightAt x0r0c x0r1c x0r2c x0f3 x0f4 x0f5 x0f6 x4
theorem hd_xc_ahead : Hd yX1_ahead 4 := by unfold Hd; decide +kernel
set_option maxHeartbeats 4000000 in
set_option maxRecDepth 100000 in
theorem m_xc_ahead {l : Launch} (hfl : l.stackTraces = false) {D : DD} (x0 : Nat) (x0r0 : Nat) (x0r1 : Nat) (x0r2 : Nat)  (x0r0c : Nat → UInt64) (x0r1c : Nat → UInt64) (x0r2c : Nat → Int32) (x0f3 : Int32) (x0f4 : Int32) (x0f5 : Int32) (x0f6 : Int32) (x1 : Int32) (x2 : Int32) (x3 : Int32) (x4 : Int32) (r : Nat) (h : f_xc_ahead x0r0c x0r1c x0r2c x0f3 x0f4 x0f5 x0f6 x1 x2 x3 x4 = some r) : MX l D yX1_ahead cX1_ahead 9 (some .int) 8 131 [.ref x0, .int x1, .int x2, .int x3, .int x4] (fun H => ON D 0 x0 [.ref x0r0, .ref x0r1, .ref x0r2, .int x0f3, .int x0f4, .int x0f5, .int x0f6] H ∧ aD D x0r0 8 x0r0c H ∧ aD D x0r1 8 x0r1c H ∧ aZ D x0r2 8 x0r2c H) r := by
  refine MX.start (by decide +kernel) (Nat.le_of_ble_eq_true rfl) ?_
  intro p e s m below meth c ls hC hout hS hp hl
  obtain ⟨h_x0, h_x0r0, h_x0r1, h_x0r2⟩ := hp
  obtain ⟨hx, hb, hr, hlk, hml, hown, hts, hnm⟩ := id hC
  have hl : lv_has ls 9 [(0, .ref x0), (1, .int x1), (2, .int x2), (3, .int x3), (4, .int x4)] := hl
  unfold f_xc_ahead at h
  have hS0 := hS
  obtain ⟨A, eA⟩ : ∃ A : Array Value, A = [.ref x0, .int x1, .int x2, .int x3, .int x4].toArray := ⟨_, rfl⟩
  rw [← eA] at hC hts ⊢
  obtain ⟨Q, eQ⟩ : ∃ Q : State → Prop, Q = vx_MQ below NoRet (XQ D r) A s 1 6 (fun q => dB D ≤ q) := ⟨_, rfl⟩
  show W p l e R_xc_ahead s m A below meth c s.heap [] 0 0 _ _
  rw [← eQ]
  refine lv_aload_n hx hb dX1_ahead_0 rfl (lv_at hl 0 rfl) ?_
  refine lv_iload hx hb dX1_ahead_1 (lv_at hl 4 rfl) ?_
  rw [eQ]
  exact r_xp hlk hout (r_xV (rest := []) (As := [.int x4]) hC 1 (m_xc_heightAt hfl x0 x0r0 x0r1 x0r2  x0r0c x0r1c x0r2c x0f3 x0f4 x0f5 x0f6 x4 _ h) q1202 q1204 qs13 q46 q1205 (OA.recv hS h_x0.OA (C := RX1) rfl) hd_xc_heightAt rfl ⟨Nat.le_of_ble_eq_true rfl, Nat.le_of_ble_eq_true rfl⟩ hS ⟨h_x0, h_x0r0, h_x0r1, h_x0r2⟩ hl.1 rfl (Nat.le_of_ble_eq_true rfl) dX1_ahead_3 ⟨Nat.le_of_ble_eq_true rfl, Nat.le_of_ble_eq_true rfl⟩)

abbrev R_xc_house : Room := { frames := 7, cells := 1, slots := 6, locals := 110 }
noncomputable def f_xc_house (x0r0c : Nat → UInt64) (x0r1c : Nat → UInt64) (x0r2c : Nat → Int32) (x0f3 : Int32) (x0f4 : Int32) (x0f5 : Int32) (x0f6 : Int32) (x1 : Int32) : Option (Nat) :=
  Option.bind (f_X1_isIn x1 0 3) fun o1 =>
  f_xc_fit o1
theorem hd_xc_house : Hd yX1_house 1 := by unfold Hd; decide +kernel
set_option maxHeartbeats 4000000 in
set_option maxRecDepth 100000 in
theorem m_xc_house {l : Launch} (hfl : l.stackTraces = false) {D : DD} (x0 : Nat) (x0r0 : Nat) (x0r1 : Nat) (x0r2 : Nat)  (x0r0c : Nat → UInt64) (x0r1c : Nat → UInt64) (x0r2c : Nat → Int32) (x0f3 : Int32) (x0f4 : Int32) (x0f5 : Int32) (x0f6 : Int32) (x1 : Int32) (r : Nat) (h : f_xc_house x0r0c x0r1c x0r2c x0f3 x0f4 x0f5 x0f6 x1 = some r) : MX l D yX1_house cX1_house 2 (some .int) 7 110 [.ref x0, .int x1] (fun H => ON D 0 x0 [.ref x0r0, .ref x0r1, .ref x0r2, .int x0f3, .int x0f4, .int x0f5, .int x0f6] H ∧ aD D x0r0 8 x0r0c H ∧ aD D x0r1 8 x0r1c H ∧ aZ D x0r2 8 x0r2c H) r := by
  refine MX.start (by decide +kernel) (Nat.le_of_ble_eq_true rfl) ?_
  intro p e s m below meth c ls hC hout hS hp hl
  obtain ⟨h_x0, h_x0r0, h_x0r1, h_x0r2⟩ := hp
  obtain ⟨hx, hb, hr, hlk, hml, hown, hts, hnm⟩ := id hC
  have hl : lv_has ls 2 [(0, .ref x0), (1, .int x1)] := hl
  unfold f_xc_house at h
  have hS0 := hS
  obtain ⟨A, eA⟩ : ∃ A : Array Value, A = [.ref x0, .int x1].toArray := ⟨_, rfl⟩
  rw [← eA] at hC hts ⊢
  obtain ⟨Q, eQ⟩ : ∃ Q : State → Prop, Q = vx_MQ below NoRet (XQ D r) A s 1 6 (fun q => dB D ≤ q) := ⟨_, rfl⟩
  show W p l e R_xc_house s m A below meth c s.heap [] 0 0 _ _
  rw [← eQ]
  refine lv_iload_n hx hb dX1_house_0 rfl (lv_at hl 1 rfl) ?_
  refine lv_iconst (v := 0) hx hb dX1_house_1 (by decide) ?_
  refine lv_iconst (v := 3) hx hb dX1_house_2 (by decide) ?_
  obtain ⟨o1, eo1, h⟩ := bind_step h
  refine r_cp (r_runS (rest := []) (As := [.int x1, .int 0, .int 3]) hC 3 (m_X1_isIn   x1 0 3 o1 eo1) q395 q396 q46 q397 hd_X1_isIn rfl ⟨Nat.le_of_ble_eq_true rfl, Nat.le_of_ble_eq_true rfl⟩ hS trivial hl.1 rfl (Nat.le_of_ble_eq_true rfl) dX1_house_3 ⟨Nat.le_of_ble_eq_true rfl, Nat.le_of_ble_eq_true rfl⟩) ?_
  rw [eQ]
  exact r_xp hlk hout (r_xS (rest := []) (As := [.int (bI o1)]) hC 1 (m_xc_fit hfl   o1 _ h) q1230 q1231 q46 q1232 hd_xc_fit rfl ⟨Nat.le_of_ble_eq_true rfl, Nat.le_of_ble_eq_true rfl⟩ hS trivial hl.1 rfl (Nat.le_of_ble_eq_true rfl) dX1_house_6 ⟨Nat.le_of_ble_eq_true rfl, Nat.le_of_ble_eq_true rfl⟩)

abbrev R_xc_call : Room := { frames := 9, cells := 1, slots := 6, locals := 161 }
noncomputable def f_xc_call (x0r0r0c : Nat → UInt64) (x0r0r1c : Nat → UInt64) (x0r0r2c : Nat → Int32) (x0r0f3 : Int32) (x0r0f4 : Int32) (x0r0f5 : Int32) (x0r0f6 : Int32) (x1 : Int32) : Option (Nat) :=
  (if x1 = 0 then
    f_xc_eighths_c x0r0r0c x0r0r1c x0r0r2c x0r0f3 x0r0f4 x0r0f5 x0r0f6 8 40000
  else
  (if x1 = 1 then
    f_xc_eighths_f x0r0r0c x0r0r1c x0r0r2c x0r0f3 x0r0f4 x0r0f5 x0r0f6 0 32769
  else
  (if x1 = 2 then
    f_xc_great x0r0r0c x0r0r1c x0r0r2c x0r0f3 x0r0f4 x0r0f5 x0r0f6 0 32 8 false
  else
  (if x1 = 3 then
    f_xc_great x0r0r0c x0r0r1c x0r0r2c x0r0f3 x0r0f4 x0r0f5 x0r0f6 0 33 45 false
  else
  (if x1 = 4 then
    f_xc_angleSum x0r0r0c x0r0r1c x0r0r2c x0r0f3 x0r0f4 x0r0f5 x0r0f6 0 8 1
  else
  (if x1 = 5 then
    f_xc_sine x0r0r0c x0r0r1c x0r0r2c x0r0f3 x0r0f4 x0r0f5 x0r0f6 (-1) 0
  else
  (if x1 = 6 then
    f_xc_fill x0r0r0c x0r0r1c x0r0r2c x0r0f3 x0r0f4 x0r0f5 x0r0f6 3
  else
  (if x1 = 7 then
    f_xc_steps x0r0r0c x0r0r1c x0r0r2c x0r0f3 x0r0f4 x0r0f5 x0r0f6 0 31
  else
  (if x1 = 8 then
    f_xc_peak x0r0r0c x0r0r1c x0r0r2c x0r0f3 x0r0f4 x0r0f5 x0r0f6 0 32768 2
  else
  (if x1 = 9 then
    f_xc_crossings x0r0r0c x0r0r1c x0r0r2c x0r0f3 x0r0f4 x0r0f5 x0r0f6 3 0 1
  else
  (if x1 = 10 then
    f_xc_ahead x0r0r0c x0r0r1c x0r0r2c x0r0f3 x0r0f4 x0r0f5 x0r0f6 0 0 17 8
  else
  f_xc_house x0r0r0c x0r0r1c x0r0r2c x0r0f3 x0r0f4 x0r0f5 x0r0f6 4
  )))))))))))
theorem hd_xc_call : Hd yX0_call 1 := by unfold Hd; decide +kernel
set_option maxHeartbeats 4000000 in
set_option maxRecDepth 100000 in
theorem m_xc_call {l : Launch} (hfl : l.stackTraces = false) {D : DD} (x0 : Nat) (x0r0 : Nat) (x0r0r0 : Nat) (x0r0r1 : Nat) (x0r0r2 : Nat)  (x0r0r0c : Nat → UInt64) (x0r0r1c : Nat → UInt64) (x0r0r2c : Nat → Int32) (x0r0f3 : Int32) (x0r0f4 : Int32) (x0r0f5 : Int32) (x0r0f6 : Int32) (x1 : Int32) (r : Nat) (h : f_xc_call x0r0r0c x0r0r1c x0r0r2c x0r0f3 x0r0f4 x0r0f5 x0r0f6 x1 = some r) : MX l D yX0_call cX0_call 2 (some .int) 9 161 [.ref x0, .int x1] (fun H => OA D 1 x0 [.ref x0r0] H ∧ ON D 0 x0r0 [.ref x0r0r0, .ref x0r0r1, .ref x0r0r2, .int x0r0f3, .int x0r0f4, .int x0r0f5, .int x0r0f6] H ∧ aD D x0r0r0 8 x0r0r0c H ∧ aD D x0r0r1 8 x0r0r1c H ∧ aZ D x0r0r2 8 x0r0r2c H) r := by
  refine MX.start (by decide +kernel) (Nat.le_of_ble_eq_true rfl) ?_
  intro p e s m below meth c ls hC hout hS hp hl
  obtain ⟨h_x0, h_x0r0, h_x0r0r0, h_x0r0r1, h_x0r0r2⟩ := hp
  obtain ⟨hx, hb, hr, hlk, hml, hown, hts, hnm⟩ := id hC
  have hl : lv_has ls 2 [(0, .ref x0), (1, .int x1)] := hl
  unfold f_xc_call at h
  have hS0 := hS
  obtain ⟨A, eA⟩ : ∃ A : Array Value, A = [.ref x0, .int x1].toArray := ⟨_, rfl⟩
  rw [← eA] at hC hts ⊢
  obtain ⟨Q, eQ⟩ : ∃ Q : State → Prop, Q = vx_MQ below NoRet (XQ D r) A s 1 6 (fun q => dB D ≤ q) := ⟨_, rfl⟩
  show W p l e R_xc_call s m A below meth c s.heap [] 0 0 _ _
  rw [← eQ]
  refine lv_iload_n hx hb dX0_call_0 rfl (lv_at hl 1 rfl) ?_
  by_cases c1 : x1 = 0
  · have h := it_pos h c1
    refine r_tabIn (z := 0) (off := 59) (tgt := 60) hx hb c1 dX0_call_1 (by decide) (by decide) (by decide) (by decide) ?_
    refine lv_aload_n hx hb dX0_call_60 rfl (lv_at hl 0 rfl) ?_
    refine r_get hx hb hts hown hS h_x0 rfl in_X0 0 (by decide) q936 rfl (v := .ref x0r0) rfl dX0_call_61 ?_
    refine lv_bipush (v := 8) hx hb dX0_call_64 (by decide) ?_
    refine lv_ldcw hx hb (v := 40000) hown (hts _ q1347) dX0_call_66 ?_
    rw [eQ]
    exact r_xp hlk hout (r_xV (rest := []) (As := [.int 8, .int 40000]) hC 2 (m_xc_eighths_c hfl x0r0 x0r0r0 x0r0r1 x0r0r2  x0r0r0c x0r0r1c x0r0r2c x0r0f3 x0r0f4 x0r0f5 x0r0f6 8 40000 _ h) q1348 q1349 q1350 q46 q1351 (OA.recv hS h_x0r0.OA (C := RX1) rfl) hd_xc_eighths_c rfl ⟨Nat.le_of_ble_eq_true rfl, Nat.le_of_ble_eq_true rfl⟩ hS ⟨h_x0r0, h_x0r0r0, h_x0r0r1, h_x0r0r2⟩ hl.1 rfl (Nat.le_of_ble_eq_true rfl) dX0_call_69 ⟨Nat.le_of_ble_eq_true rfl, Nat.le_of_ble_eq_true rfl⟩)
  have h := it_neg h c1
  by_cases c3 : x1 = 1
  · have h := it_pos h c3
    refine r_tabIn (z := 1) (off := 72) (tgt := 73) hx hb c3 dX0_call_1 (by decide) (by decide) (by decide) (by decide) ?_
    refine lv_aload_n hx hb dX0_call_73 rfl (lv_at hl 0 rfl) ?_
    refine r_get hx hb hts hown hS h_x0 rfl in_X0 0 (by decide) q936 rfl (v := .ref x0r0) rfl dX0_call_74 ?_
    refine lv_iconst (v := 0) hx hb dX0_call_77 (by decide) ?_
    refine lv_ldcw hx hb (v := 32769) hown (hts _ q1357) dX0_call_78 ?_
    rw [eQ]
    exact r_xp hlk hout (r_xV (rest := []) (As := [.int 0, .int 32769]) hC 2 (m_xc_eighths_f hfl x0r0 x0r0r0 x0r0r1 x0r0r2  x0r0r0c x0r0r1c x0r0r2c x0r0f3 x0r0f4 x0r0f5 x0r0f6 0 32769 _ h) q1348 q1349 q1350 q46 q1351 (OA.recv hS h_x0r0.OA (C := RX1) rfl) hd_xc_eighths_f rfl ⟨Nat.le_of_ble_eq_true rfl, Nat.le_of_ble_eq_true rfl⟩ hS ⟨h_x0r0, h_x0r0r0, h_x0r0r1, h_x0r0r2⟩ hl.1 rfl (Nat.le_of_ble_eq_true rfl) dX0_call_81 ⟨Nat.le_of_ble_eq_true rfl, Nat.le_of_ble_eq_true rfl⟩)
  have h := it_neg h c3
  by_cases c5 : x1 = 2
  · have h := it_pos h c5
    refine r_tabIn (z := 2) (off := 84) (tgt := 85) hx hb c5 dX0_call_1 (by decide) (by decide) (by decide) (by decide) ?_
    refine lv_aload_n hx hb dX0_call_85 rfl (lv_at hl 0 rfl) ?_
    refine r_get hx hb hts hown hS h_x0 rfl in_X0 0 (by decide) q936 rfl (v := .ref x0r0) rfl dX0_call_86 ?_
    refine lv_iconst (v := 0) hx hb dX0_call_89 (by decide) ?_
    refine lv_bipush (v := 32) hx hb dX0_call_90 (by decide) ?_
    refine lv_bipush (v := 8) hx hb dX0_call_92 (by decide) ?_
    refine lv_iconst (v := 0) hx hb dX0_call_94 (by decide) ?_
    rw [eQ]
    exact r_xp hlk hout (r_xV (rest := []) (As := [.int 0, .int 32, .int 8, .int 0]) hC 4 (m_xc_great hfl x0r0 x0r0r0 x0r0r1 x0r0r2  x0r0r0c x0r0r1c x0r0r2c x0r0f3 x0r0f4 x0r0f5 x0r0f6 0 32 8 false _ h) q1358 q1359 q1360 q46 q1361 (OA.recv hS h_x0r0.OA (C := RX1) rfl) hd_xc_great rfl ⟨Nat.le_of_ble_eq_true rfl, Nat.le_of_ble_eq_true rfl⟩ hS ⟨h_x0r0, h_x0r0r0, h_x0r0r1, h_x0r0r2⟩ hl.1 rfl (Nat.le_of_ble_eq_true rfl) dX0_call_95 ⟨Nat.le_of_ble_eq_true rfl, Nat.le_of_ble_eq_true rfl⟩)
  have h := it_neg h c5
  by_cases c7 : x1 = 3
  · have h := it_pos h c7
    refine r_tabIn (z := 3) (off := 98) (tgt := 99) hx hb c7 dX0_call_1 (by decide) (by decide) (by decide) (by decide) ?_
    refine lv_aload_n hx hb dX0_call_99 rfl (lv_at hl 0 rfl) ?_
    refine r_get hx hb hts hown hS h_x0 rfl in_X0 0 (by decide) q936 rfl (v := .ref x0r0) rfl dX0_call_100 ?_
    refine lv_iconst (v := 0) hx hb dX0_call_103 (by decide) ?_
    refine lv_bipush (v := 33) hx hb dX0_call_104 (by decide) ?_
    refine lv_bipush (v := 45) hx hb dX0_call_106 (by decide) ?_
    refine lv_iconst (v := 0) hx hb dX0_call_108 (by decide) ?_
    rw [eQ]
    exact r_xp hlk hout (r_xV (rest := []) (As := [.int 0, .int 33, .int 45, .int 0]) hC 4 (m_xc_great hfl x0r0 x0r0r0 x0r0r1 x0r0r2  x0r0r0c x0r0r1c x0r0r2c x0r0f3 x0r0f4 x0r0f5 x0r0f6 0 33 45 false _ h) q1358 q1359 q1360 q46 q1361 (OA.recv hS h_x0r0.OA (C := RX1) rfl) hd_xc_great rfl ⟨Nat.le_of_ble_eq_true rfl, Nat.le_of_ble_eq_true rfl⟩ hS ⟨h_x0r0, h_x0r0r0, h_x0r0r1, h_x0r0r2⟩ hl.1 rfl (Nat.le_of_ble_eq_true rfl) dX0_call_109 ⟨Nat.le_of_ble_eq_true rfl, Nat.le_of_ble_eq_true rfl⟩)
  have h := it_neg h c7
  by_cases c9 : x1 = 4
  · have h := it_pos h c9
    refine r_tabIn (z := 4) (off := 112) (tgt := 113) hx hb c9 dX0_call_1 (by decide) (by decide) (by decide) (by decide) ?_
    refine lv_aload_n hx hb dX0_call_113 rfl (lv_at hl 0 rfl) ?_
    refine r_get hx hb hts hown hS h_x0 rfl in_X0 0 (by decide) q936 rfl (v := .ref x0r0) rfl dX0_call_114 ?_
    refine lv_iconst (v := 0) hx hb dX0_call_117 (by decide) ?_
    refine lv_bipush (v := 8) hx hb dX0_call_118 (by decide) ?_
    refine lv_iconst (v := 1) hx hb dX0_call_120 (by decide) ?_
    rw [eQ]
    exact r_xp hlk hout (r_xV (rest := []) (As := [.int 0, .int 8, .int 1]) hC 3 (m_xc_angleSum hfl x0r0 x0r0r0 x0r0r1 x0r0r2  x0r0r0c x0r0r1c x0r0r2c x0r0f3 x0r0f4 x0r0f5 x0r0f6 0 8 1 _ h) q1362 q1363 q1364 q46 q1365 (OA.recv hS h_x0r0.OA (C := RX1) rfl) hd_xc_angleSum rfl ⟨Nat.le_of_ble_eq_true rfl, Nat.le_of_ble_eq_true rfl⟩ hS ⟨h_x0r0, h_x0r0r0, h_x0r0r1, h_x0r0r2⟩ hl.1 rfl (Nat.le_of_ble_eq_true rfl) dX0_call_121 ⟨Nat.le_of_ble_eq_true rfl, Nat.le_of_ble_eq_true rfl⟩)
  have h := it_neg h c9
  by_cases c11 : x1 = 5
  · have h := it_pos h c11
    refine r_tabIn (z := 5) (off := 124) (tgt := 125) hx hb c11 dX0_call_1 (by decide) (by decide) (by decide) (by decide) ?_
    refine lv_aload_n hx hb dX0_call_125 rfl (lv_at hl 0 rfl) ?_
    refine r_get hx hb hts hown hS h_x0 rfl in_X0 0 (by decide) q936 rfl (v := .ref x0r0) rfl dX0_call_126 ?_
    refine lv_iconst (v := (-1)) hx hb dX0_call_129 (by decide) ?_
    refine lv_iconst (v := 0) hx hb dX0_call_130 (by decide) ?_
    rw [eQ]
    exact r_xp hlk hout (r_xV (rest := []) (As := [.int (-1), .int 0]) hC 2 (m_xc_sine hfl x0r0 x0r0r0 x0r0r1 x0r0r2  x0r0r0c x0r0r1c x0r0r2c x0r0f3 x0r0f4 x0r0f5 x0r0f6 (-1) 0 _ h) q1373 q1374 q1375 q46 q1376 (OA.recv hS h_x0r0.OA (C := RX1) rfl) hd_xc_sine rfl ⟨Nat.le_of_ble_eq_true rfl, Nat.le_of_ble_eq_true rfl⟩ hS ⟨h_x0r0, h_x0r0r0, h_x0r0r1, h_x0r0r2⟩ hl.1 rfl (Nat.le_of_ble_eq_true rfl) dX0_call_131 ⟨Nat.le_of_ble_eq_true rfl, Nat.le_of_ble_eq_true rfl⟩)
  have h := it_neg h c11
  by_cases c13 : x1 = 6
  · have h := it_pos h c13
    refine r_tabIn (z := 6) (off := 134) (tgt := 135) hx hb c13 dX0_call_1 (by decide) (by decide) (by decide) (by decide) ?_
    refine lv_aload_n hx hb dX0_call_135 rfl (lv_at hl 0 rfl) ?_
    refine r_get hx hb hts hown hS h_x0 rfl in_X0 0 (by decide) q936 rfl (v := .ref x0r0) rfl dX0_call_136 ?_
    refine lv_iconst (v := 3) hx hb dX0_call_139 (by decide) ?_
    rw [eQ]
    exact r_xp hlk hout (r_xV (rest := []) (As := [.int 3]) hC 1 (m_xc_fill hfl x0r0 x0r0r0 x0r0r1 x0r0r2  x0r0r0c x0r0r1c x0r0r2c x0r0f3 x0r0f4 x0r0f5 x0r0f6 3 _ h) q1381 q1382 q1383 q46 q1384 (OA.recv hS h_x0r0.OA (C := RX1) rfl) hd_xc_fill rfl ⟨Nat.le_of_ble_eq_true rfl, Nat.le_of_ble_eq_true rfl⟩ hS ⟨h_x0r0, h_x0r0r0, h_x0r0r1, h_x0r0r2⟩ hl.1 rfl (Nat.le_of_ble_eq_true rfl) dX0_call_140 ⟨Nat.le_of_ble_eq_true rfl, Nat.le_of_ble_eq_true rfl⟩)
  have h := it_neg h c13
  by_cases c15 : x1 = 7
  · have h := it_pos h c15
    refine r_tabIn (z := 7) (off := 143) (tgt := 144) hx hb c15 dX0_call_1 (by decide) (by decide) (by decide) (by decide) ?_
    refine lv_aload_n hx hb dX0_call_144 rfl (lv_at hl 0 rfl) ?_
    refine r_get hx hb hts hown hS h_x0 rfl in_X0 0 (by decide) q936 rfl (v := .ref x0r0) rfl dX0_call_145 ?_
    refine lv_iconst (v := 0) hx hb dX0_call_148 (by decide) ?_
    refine lv_bipush (v := 31) hx hb dX0_call_149 (by decide) ?_
    rw [eQ]
    exact r_xp hlk hout (r_xV (rest := []) (As := [.int 0, .int 31]) hC 2 (m_xc_steps hfl x0r0 x0r0r0 x0r0r1 x0r0r2  x0r0r0c x0r0r1c x0r0r2c x0r0f3 x0r0f4 x0r0f5 x0r0f6 0 31 _ h) q1226 q1227 q1228 q46 q1229 (OA.recv hS h_x0r0.OA (C := RX1) rfl) hd_xc_steps rfl ⟨Nat.le_of_ble_eq_true rfl, Nat.le_of_ble_eq_true rfl⟩ hS ⟨h_x0r0, h_x0r0r0, h_x0r0r1, h_x0r0r2⟩ hl.1 rfl (Nat.le_of_ble_eq_true rfl) dX0_call_151 ⟨Nat.le_of_ble_eq_true rfl, Nat.le_of_ble_eq_true rfl⟩)
  have h := it_neg h c15
  by_cases c17 : x1 = 8
  · have h := it_pos h c17
    refine r_tabIn (z := 8) (off := 154) (tgt := 155) hx hb c17 dX0_call_1 (by decide) (by decide) (by decide) (by decide) ?_
    refine lv_aload_n hx hb dX0_call_155 rfl (lv_at hl 0 rfl) ?_
    refine r_get hx hb hts hown hS h_x0 rfl in_X0 0 (by decide) q936 rfl (v := .ref x0r0) rfl dX0_call_156 ?_
    refine lv_iconst (v := 0) hx hb dX0_call_159 (by decide) ?_
    refine lv_ldc hx hb (v := 32768) hown (hts _ q1385) dX0_call_160 ?_
    refine lv_iconst (v := 2) hx hb dX0_call_162 (by decide) ?_
    rw [eQ]
    exact r_xp hlk hout (r_xV (rest := []) (As := [.int 0, .int 32768, .int 2]) hC 3 (m_xc_peak hfl x0r0 x0r0r0 x0r0r1 x0r0r2  x0r0r0c x0r0r1c x0r0r2c x0r0f3 x0r0f4 x0r0f5 x0r0f6 0 32768 2 _ h) q1386 q1387 q1388 q46 q1389 (OA.recv hS h_x0r0.OA (C := RX1) rfl) hd_xc_peak rfl ⟨Nat.le_of_ble_eq_true rfl, Nat.le_of_ble_eq_true rfl⟩ hS ⟨h_x0r0, h_x0r0r0, h_x0r0r1, h_x0r0r2⟩ hl.1 rfl (Nat.le_of_ble_eq_true rfl) dX0_call_163 ⟨Nat.le_of_ble_eq_true rfl, Nat.le_of_ble_eq_true rfl⟩)
  have h := it_neg h c17
  by_cases c19 : x1 = 9
  · have h := it_pos h c19
    refine r_tabIn (z := 9) (off := 166) (tgt := 167) hx hb c19 dX0_call_1 (by decide) (by decide) (by decide) (by decide) ?_
    refine lv_aload_n hx hb dX0_call_167 rfl (lv_at hl 0 rfl) ?_
    refine r_get hx hb hts hown hS h_x0 rfl in_X0 0 (by decide) q936 rfl (v := .ref x0r0) rfl dX0_call_168 ?_
    refine lv_iconst (v := 3) hx hb dX0_call_171 (by decide) ?_
    refine lv_iconst (v := 0) hx hb dX0_call_172 (by decide) ?_
    refine lv_iconst (v := 1) hx hb dX0_call_173 (by decide) ?_
    rw [eQ]
    exact r_xp hlk hout (r_xV (rest := []) (As := [.int 3, .int 0, .int 1]) hC 3 (m_xc_crossings hfl x0r0 x0r0r0 x0r0r1 x0r0r2  x0r0r0c x0r0r1c x0r0r2c x0r0f3 x0r0f4 x0r0f5 x0r0f6 3 0 1 _ h) q1393 q1394 q1395 q46 q1396 (OA.recv hS h_x0r0.OA (C := RX1) rfl) hd_xc_crossings rfl ⟨Nat.le_of_ble_eq_true rfl, Nat.le_of_ble_eq_true rfl⟩ hS ⟨h_x0r0, h_x0r0r0, h_x0r0r1, h_x0r0r2⟩ hl.1 rfl (Nat.le_of_ble_eq_true rfl) dX0_call_174 ⟨Nat.le_of_ble_eq_true rfl, Nat.le_of_ble_eq_true rfl⟩)
  have h := it_neg h c19
  by_cases c21 : x1 = 10
  · have h := it_pos h c21
    refine r_tabIn (z := 10) (off := 177) (tgt := 178) hx hb c21 dX0_call_1 (by decide) (by decide) (by decide) (by decide) ?_
    refine lv_aload_n hx hb dX0_call_178 rfl (lv_at hl 0 rfl) ?_
    refine r_get hx hb hts hown hS h_x0 rfl in_X0 0 (by decide) q936 rfl (v := .ref x0r0) rfl dX0_call_179 ?_
    refine lv_iconst (v := 0) hx hb dX0_call_182 (by decide) ?_
    refine lv_iconst (v := 0) hx hb dX0_call_183 (by decide) ?_
    refine lv_bipush (v := 17) hx hb dX0_call_184 (by decide) ?_
    refine lv_bipush (v := 8) hx hb dX0_call_186 (by decide) ?_
    rw [eQ]
    exact r_xp hlk hout (r_xV (rest := []) (As := [.int 0, .int 0, .int 17, .int 8]) hC 4 (m_xc_ahead hfl x0r0 x0r0r0 x0r0r1 x0r0r2  x0r0r0c x0r0r1c x0r0r2c x0r0f3 x0r0f4 x0r0f5 x0r0f6 0 0 17 8 _ h) q1397 q1398 q1399 q46 q1400 (OA.recv hS h_x0r0.OA (C := RX1) rfl) hd_xc_ahead rfl ⟨Nat.le_of_ble_eq_true rfl, Nat.le_of_ble_eq_true rfl⟩ hS ⟨h_x0r0, h_x0r0r0, h_x0r0r1, h_x0r0r2⟩ hl.1 rfl (Nat.le_of_ble_eq_true rfl) dX0_call_188 ⟨Nat.le_of_ble_eq_true rfl, Nat.le_of_ble_eq_true rfl⟩)
  have h := it_neg h c21
  refine lv_tableOut (tgt := 192) hx hb dX0_call_1 (tab_out11 c1 c3 c5 c7 c9 c11 c13 c15 c17 c19 c21) (by decide) ?_
  refine lv_aload_n hx hb dX0_call_192 rfl (lv_at hl 0 rfl) ?_
  refine r_get hx hb hts hown hS h_x0 rfl in_X0 0 (by decide) q936 rfl (v := .ref x0r0) rfl dX0_call_193 ?_
  refine lv_iconst (v := 4) hx hb dX0_call_196 (by decide) ?_
  rw [eQ]
  exact r_xp hlk hout (r_xV (rest := []) (As := [.int 4]) hC 1 (m_xc_house hfl x0r0 x0r0r0 x0r0r1 x0r0r2  x0r0r0c x0r0r1c x0r0r2c x0r0f3 x0r0f4 x0r0f5 x0r0f6 4 _ h) q1248 q1249 q1250 q46 q1251 (OA.recv hS h_x0r0.OA (C := RX1) rfl) hd_xc_house rfl ⟨Nat.le_of_ble_eq_true rfl, Nat.le_of_ble_eq_true rfl⟩ hS ⟨h_x0r0, h_x0r0r0, h_x0r0r1, h_x0r0r2⟩ hl.1 rfl (Nat.le_of_ble_eq_true rfl) dX0_call_197 ⟨Nat.le_of_ble_eq_true rfl, Nat.le_of_ble_eq_true rfl⟩)

