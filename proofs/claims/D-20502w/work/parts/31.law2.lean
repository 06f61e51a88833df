/-! the law's areOrdered and isSummed; the room of a loop that makes things -/
abbrev R_X0_areOrdered : Room := { frames := 12, cells := 66435, slots := 528968, locals := 1487 }
noncomputable def f_X0_areOrdered (x0r0r0c : Nat → UInt64) (x0r0r1c : Nat → UInt64) (x0r0r2c : Nat → Int32) (x0r0f3 : Int32) (x0r0f4 : Int32) (x0r0f5 : Int32) (x0r0f6 : Int32) (x1 : Int32) : Option (Bool × Int32 × (Nat → UInt64)) :=
  lt (fun (f1 : Nat → UInt64) (v2 : Int32) (v3 : Int32) =>
  (show Option (Sum ((Nat → UInt64) × Int32 × Int32) ((Nat → UInt64) × Int32)) from (
  (if 8 ≤ v3 then
    some (.inr (f1, v2))
  else
    lti (x1 >>> (v3 &&& 31)) fun v18 =>
    Option.bind (f_X0_some v18 3) fun o19 =>
    lti (2 * v3) fun v20 =>
    lti (x1 >>> (v20 &&& 31)) fun v21 =>
    Option.bind (f_X0_some v21 8) fun o22 =>
    Option.bind (f_X0_answer x0r0r0c f1 x0r0r2c x0r0f3 v2 x0r0f5 x0r0f6 o19 o22 v3) fun o23 =>
    lti (v3 + 1) fun v24 =>
    some (.inl (o23.2.2, o23.2.1, v24))
  )
  ))
  ) fun F14 =>
  Option.bind (lp 9 (fun x => F14 x.1 x.2.1 x.2.2) (x0r0r1c, x0r0f4, 0)) fun w15 =>
  lt (fun (v25 : Int64) (v26 : Bool) (v27 : Int32) =>
  (show Option (Sum (Int64 × Bool × Int32) (Int64 × Bool)) from (
  (if 8 ≤ v27 then
    some (.inr (v25, v26))
  else
    Option.bind (f_X0_told_2 x0r0r0c w15.1 x0r0r2c x0r0f3 w15.2 x0r0f5 x0r0f6 v27) fun o360 =>
    ltl ((v25 + o360 : Int64)) fun v361 =>
    lt (fun (v362 : Bool) (v363 : Int32) (v364 : Int32) (v365 : Int32) =>
    (show Option (Sum (Bool × Int32 × Int32 × Int32) (Bool × Int32 × Int32)) from (
    (if 8 ≤ v365 then
      some (.inr (v362, v363, v364))
    else
      lti (v27 + v365) fun v680 =>
      lti (v680 &&& 1) fun v681 =>
      Option.bind (f_X1_heightOrder x0r0r0c w15.1 x0r0r2c x0r0f3 w15.2 x0r0f5 x0r0f6 v27 v365 v681) fun o682 =>
      Option.bind (f_X0_told_2 x0r0r0c w15.1 x0r0r2c x0r0f3 w15.2 x0r0f5 x0r0f6 v27) fun o683 =>
      Option.bind (f_X0_told_2 x0r0r0c w15.1 x0r0r2c x0r0f3 w15.2 x0r0f5 x0r0f6 v365) fun o684 =>
      ltl ((o683 - o684 : Int64)) fun v685 =>
      lti (lg_cmp v685 0) fun v686 =>
      lt (fun (v687 : Bool) =>
      lt (fun (v689 : Bool) =>
      lt (fun (v691 : Int32) (v692 : Int32) =>
      lti (v365 + 1) fun v694 =>
      some (.inl (v689, v691, v692, v694))
      ) fun K693 =>
      (if o682 = 0 then
        lt (fun (v696 : Int32) =>
        K693 v696 v365
        ) fun K697 =>
        (if v363 ≤ v365 then
          K697 v363
        else
          K697 v365
        )
      else
        K693 v363 v364
      )
      ) fun K690 =>
      lt (fun (_u : Unit) =>
      K690 false
      ) fun K699 =>
      (if v362 = true then
        Option.bind (f_X1_heightOrder x0r0r0c w15.1 x0r0r2c x0r0f3 w15.2 x0r0f5 x0r0f6 v365 v27 0) fun o701 =>
        lti (-o701) fun v702 =>
        (if o682 = v702 then
          lt (fun (_u : Unit) =>
          lti (v365 - v365 / 3 * 3) fun v705 =>
          Option.bind (f_X1_heightSame x0r0r0c w15.1 x0r0r2c x0r0f3 w15.2 x0r0f5 x0r0f6 v27 v365 v705) fun o706 =>
          lt (fun (v707 : Bool) =>
          (if (bI o706) = (bI v707) then
            Option.bind (f_X1_heightBelow x0r0r0c w15.1 x0r0r2c x0r0f3 w15.2 x0r0f5 x0r0f6 v27 v365 false) fun o710 =>
            lt (fun (v711 : Bool) =>
            (if (bI o710) = (bI v711) then
              Option.bind (f_X1_heightBelow x0r0r0c w15.1 x0r0r2c x0r0f3 w15.2 x0r0f5 x0r0f6 v27 v365 true) fun o714 =>
              lt (fun (v715 : Bool) =>
              (if (bI o714) = (bI v715) then
                Option.bind (f_X1_sizeOrder x0r0r0c w15.1 x0r0r2c x0r0f3 w15.2 x0r0f5 x0r0f6 v27 v365) fun o718 =>
                Option.bind (f_X1_sizeOrder x0r0r0c w15.1 x0r0r2c x0r0f3 w15.2 x0r0f5 x0r0f6 v365 v27) fun o719 =>
                lti (-o719) fun v720 =>
                (if o718 = v720 then
                  Option.bind (f_X0_plain x0r0r0c w15.1 x0r0r2c x0r0f3 w15.2 x0r0f5 x0r0f6 v27) fun o722 =>
                  Option.bind (f_X0_plain x0r0r0c w15.1 x0r0r2c x0r0f3 w15.2 x0r0f5 x0r0f6 v365) fun o723 =>
                  Option.bind (f_X0_isNear o722 o723 1) fun o724 =>
                  lt (fun (_u : Unit) =>
                  K690 true
                  ) fun K725 =>
                  (if o724 = true then
                    K725 ()
                  else
                    Option.bind (f_X1_sizeOrder x0r0r0c w15.1 x0r0r2c x0r0f3 w15.2 x0r0f5 x0r0f6 v27 v365) fun o727 =>
                    Option.bind (f_X0_plain x0r0r0c w15.1 x0r0r2c x0r0f3 w15.2 x0r0f5 x0r0f6 v27) fun o728 =>
                    Option.bind (f_X0_plain x0r0r0c w15.1 x0r0r2c x0r0f3 w15.2 x0r0f5 x0r0f6 v365) fun o729 =>
                    lti (lg_cmp o728 o729) fun v730 =>
                    lt (fun (v731 : Int32) =>
                    (if o727 = v731 then
                      K725 ()
                    else
                      K699 ()
                    )
                    ) fun K732 =>
                    (if 0 ≤ v730 then
                      K732 1
                    else
                      K732 (-1)
                    )
                  )
                else
                  K699 ()
                )
              else
                K699 ()
              )
              ) fun K716 =>
              lt (fun (_u : Unit) =>
              K716 true
              ) fun K735 =>
              (if o682 ≤ 0 then
                K735 ()
              else
                (if v687 = true then
                  K735 ()
                else
                  K716 false
                )
              )
            else
              K699 ()
            )
            ) fun K712 =>
            lt (fun (_u : Unit) =>
            K712 false
            ) fun K738 =>
            (if 0 ≤ o682 then
              K738 ()
            else
              (if v687 = true then
                K738 ()
              else
                K712 true
              )
            )
          else
            K699 ()
          )
          ) fun K708 =>
          (if o682 = 0 then
            K708 true
          else
            K708 false
          )
          ) fun K704 =>
          (if o682 = 0 then
            lti (lg_cmp v685 0) fun v753 =>
            (if v753 = 0 then
              K704 ()
            else
              K699 ()
            )
          else
            lti (lg_cmp v685 0) fun v743 =>
            (if v743 = 0 then
              K704 ()
            else
              lti (lg_cmp v685 0) fun v745 =>
              lt (fun (v746 : Bool) =>
              lt (fun (v748 : Bool) =>
              (if (bI v746) = (bI v748) then
                K704 ()
              else
                K699 ()
              )
              ) fun K749 =>
              (if 0 ≤ o682 then
                K749 false
              else
                K749 true
              )
              ) fun K747 =>
              (if 0 ≤ v745 then
                K747 false
              else
                K747 true
              )
            )
          )
        else
          K699 ()
        )
      else
        K699 ()
      )
      ) fun K688 =>
      lt (fun (_u : Unit) =>
      K688 false
      ) fun K755 =>
      (if v686 = 0 then
        Option.bind (f_X1_upper x0r0r0c w15.1 x0r0r2c x0r0f3 w15.2 x0r0f5 x0r0f6 v27) fun o757 =>
        lti (o757 &&& 2147483647) fun v758 =>
        (if v758 = 0 then
          Option.bind (f_X1_upper x0r0r0c w15.1 x0r0r2c x0r0f3 w15.2 x0r0f5 x0r0f6 v365) fun o760 =>
          lti (o760 &&& 2147483647) fun v761 =>
          (if v761 = 0 then
            K688 true
          else
            K755 ()
          )
        else
          K755 ()
        )
      else
        K755 ()
      )
    )
    ))
    ) fun F676 =>
    Option.bind (lp 9 (fun x => F676 x.1 x.2.1 x.2.2.1 x.2.2.2) (v26, 8, (-1), 0)) fun w677 =>
    lt (fun (v763 : Bool) =>
    lti (v27 + 1) fun v765 =>
    some (.inl (v361, v763, v765))
    ) fun K764 =>
    lt (fun (_u : Unit) =>
    K764 false
    ) fun K766 =>
    (if w677.1 = true then
      Option.bind (f_X1_heightFind x0r0r0c w15.1 x0r0r2c x0r0f3 w15.2 x0r0f5 x0r0f6 v27 false) fun o768 =>
      (if o768 = w677.2.1 then
        Option.bind (f_X1_heightFind x0r0r0c w15.1 x0r0r2c x0r0f3 w15.2 x0r0f5 x0r0f6 v27 true) fun o770 =>
        (if o770 = w677.2.2 then
          K764 true
        else
          K766 ()
        )
      else
        K766 ()
      )
    else
      K766 ()
    )
  )
  ))
  ) fun F356 =>
  Option.bind (lp 9 (fun x => F356 x.1 x.2.1 x.2.2) (0, true, 0)) fun w357 =>
  lt (fun (f772 : Nat → UInt64) (v773 : Int32) (v774 : Bool) =>
  lt (fun (v776 : Int64) (v777 : Bool) (v778 : Int32) =>
  (show Option (Sum (Int64 × Bool × Int32) (Int64 × Bool)) from (
  (if 8 ≤ v778 then
    some (.inr (v776, v777))
  else
    Option.bind (f_X0_told_2 x0r0r0c f772 x0r0r2c x0r0f3 v773 x0r0f5 x0r0f6 v778) fun o797 =>
    ltl ((v776 + o797 : Int64)) fun v798 =>
    lt (fun (v799 : Bool) =>
    lti (v778 + 1) fun v801 =>
    some (.inl (v798, v799, v801))
    ) fun K800 =>
    lt (fun (_u : Unit) =>
    K800 false
    ) fun K802 =>
    (if v777 = true then
      lt (fun (_u : Unit) =>
      K800 true
      ) fun K804 =>
      (if v778 = 0 then
        K804 ()
      else
        lti (v778 - 1) fun v806 =>
        Option.bind (f_X1_heightOrder x0r0r0c f772 x0r0r2c x0r0f3 v773 x0r0f5 x0r0f6 v806 v778 0) fun o807 =>
        (if 0 < o807 then
          K802 ()
        else
          K804 ()
        )
      )
    else
      K802 ()
    )
  )
  ))
  ) fun F793 =>
  Option.bind (lp 9 (fun x => F793 x.1 x.2.1 x.2.2) (0, v774, 0)) fun w794 =>
  lt (fun (f809 : Nat → UInt64) (v810 : Int32) (v811 : Bool) =>
  Option.bind (f_X1_heightEnd x0r0r0c f809 x0r0r2c x0r0f3 v810 x0r0f5 x0r0f6 true 3) fun o813 =>
  Option.bind (f_X1_heightEnd x0r0r0c o813.2.2 x0r0r2c x0r0f3 o813.2.1 x0r0f5 x0r0f6 false 4) fun o814 =>
  lt (fun (v815 : Bool) (v816 : Int32) =>
  (show Option (Sum (Bool × Int32) (Bool)) from (
  (if 8 ≤ v816 then
    some (.inr v815)
  else
    lt (fun (v832 : Bool) =>
    lti (v816 + 1) fun v834 =>
    some (.inl (v832, v834))
    ) fun K833 =>
    lt (fun (_u : Unit) =>
    K833 false
    ) fun K835 =>
    (if v815 = true then
      Option.bind (f_X1_heightOrder x0r0r0c o814.2.2 x0r0r2c x0r0f3 o814.2.1 x0r0f5 x0r0f6 v816 3 0) fun o837 =>
      (if 0 < o837 then
        K835 ()
      else
        Option.bind (f_X1_heightOrder x0r0r0c o814.2.2 x0r0r2c x0r0f3 o814.2.1 x0r0f5 x0r0f6 4 v816 1) fun o839 =>
        (if 0 < o839 then
          K835 ()
        else
          K833 true
        )
      )
    else
      K835 ()
    )
  )
  ))
  ) fun F828 =>
  Option.bind (lp 9 (fun x => F828 x.1 x.2) (v811, 0)) fun w829 =>
  Option.bind (f_X1_heightMax x0r0r0c o814.2.2 x0r0r2c x0r0f3 o814.2.1 x0r0f5 x0r0f6 3 4 5) fun o841 =>
  Option.bind (f_X1_heightMin x0r0r0c o841.2.2 x0r0r2c x0r0f3 o841.2.1 x0r0f5 x0r0f6 3 4 6) fun o842 =>
  (if w829 = true then
    Option.bind (f_X1_heightSame x0r0r0c o842.2.2 x0r0r2c x0r0f3 o842.2.1 x0r0f5 x0r0f6 5 3 0) fun o844 =>
    (if o844 = true then
      Option.bind (f_X1_heightSame x0r0r0c o842.2.2 x0r0r2c x0r0f3 o842.2.1 x0r0f5 x0r0f6 6 4 1) fun o846 =>
      (if o846 = true then
        Option.bind (f_X0_isFilled x0r0r0c o842.2.2 x0r0r2c x0r0f3 o842.2.1 x0r0f5 x0r0f6 x1) fun o848 =>
        (if o848.1 = true then
          some (true, o848.2.1, o848.2.2)
        else
          some (false, o848.2.1, o848.2.2)
        )
      else
        some (false, o842.2.1, o842.2.2)
      )
    else
      some (false, o842.2.1, o842.2.2)
    )
  else
    some (false, o842.2.1, o842.2.2)
  )
  ) fun K812 =>
  lt (fun (f850 : Nat → UInt64) (v851 : Int32) =>
  K812 f850 v851 false
  ) fun K852 =>
  (if w794.2 = true then
    lti (lg_cmp w357.1 w794.1) fun v854 =>
    (if v854 = 0 then
      Option.bind (f_X0_some x1 8) fun o856 =>
      Option.bind (f_X1_heightMin x0r0r0c f772 x0r0r2c x0r0f3 v773 x0r0f5 x0r0f6 o856 0 0) fun o857 =>
      (if o857.1 = 0 then
        Option.bind (f_X0_some x1 8) fun o859 =>
        Option.bind (f_X1_heightMax x0r0r0c o857.2.2 x0r0r2c x0r0f3 o857.2.1 x0r0f5 x0r0f6 o859 7 7) fun o860 =>
        (if o860.1 = 0 then
          K812 o860.2.2 o860.2.1 true
        else
          K852 o860.2.2 o860.2.1
        )
      else
        K852 o857.2.2 o857.2.1
      )
    else
      K852 f772 v773
    )
  else
    K852 f772 v773
  )
  ) fun K775 =>
  lt (fun (f862 : Nat → UInt64) (v863 : Int32) =>
  K775 f862 v863 false
  ) fun K864 =>
  (if w357.2 = true then
    Option.bind (f_X1_heightSort x0r0r0c w15.1 x0r0r2c x0r0f3 w15.2 x0r0f5 x0r0f6) fun o866 =>
    (if o866.1 < 0 then
      K864 o866.2.2 o866.2.1
    else
      Option.bind (f_X1_heightSort x0r0r0c o866.2.2 x0r0r2c x0r0f3 o866.2.1 x0r0f5 x0r0f6) fun o868 =>
      (if o868.1 = 0 then
        K775 o868.2.2 o868.2.1 true
      else
        K864 o868.2.2 o868.2.1
      )
    )
  else
    K864 w15.1 w15.2
  )
theorem hd_X0_areOrdered : Hd yX0_areOrdered 1 := by unfold Hd; decide +kernel
set_option maxHeartbeats 4000000 in
set_option maxRecDepth 100000 in
theorem m_X0_areOrdered {l : Launch} {D : DD} (x0 : Nat) (x0r0 : Nat) (x0r0r0 : Nat) (x0r0r1 : Nat) (x0r0r2 : Nat)  (x0r0r0c : Nat → UInt64) (x0r0r1c : Nat → UInt64) (x0r0r2c : Nat → Int32) (x0r0f3 : Int32) (x0r0f4 : Int32) (x0r0f5 : Int32) (x0r0f6 : Int32) (x1 : Int32) (r : Bool × Int32 × (Nat → UInt64)) (h : f_X0_areOrdered x0r0r0c x0r0r1c x0r0r2c x0r0f3 x0r0f4 x0r0f5 x0r0f6 x1 = some r) : MT l D yX0_areOrdered cX0_areOrdered 15 (some .boolean) 12 1487 66435 528968 [.ref x0, .int x1] (fun H => OA D 1 x0 [.ref x0r0] H ∧ ON D 0 x0r0 [.ref x0r0r0, .ref x0r0r1, .ref x0r0r2, .int x0r0f3, .int x0r0f4, .int x0r0f5, .int x0r0f6] H ∧ dB D ≤ x0r0 ∧ aD D x0r0r0 8 x0r0r0c H ∧ aD D x0r0r1 8 x0r0r1c H ∧ dB D ≤ x0r0r1 ∧ aZ D x0r0r2 8 x0r0r2c H ∧ x0 ≠ x0r0 ∧ x0 ≠ x0r0r1 ∧ x0r0 ≠ x0r0r0 ∧ x0r0 ≠ x0r0r1 ∧ x0r0 ≠ x0r0r2 ∧ x0r0r0 ≠ x0r0r1 ∧ x0r0r1 ≠ x0r0r2) (pZ (fun H b H' => b = r.1 ∧ ON D 0 x0r0 [.ref x0r0r0, .ref x0r0r1, .ref x0r0r2, .int x0r0f3, .int r.2.1, .int x0r0f5, .int x0r0f6] H' ∧ aD D x0r0r1 8 r.2.2 H' ∧ Off (fun a => a = x0r0 ∨ a = x0r0r1) H H')) := by
  refine MT.start (by decide +kernel) (Nat.le_of_ble_eq_true rfl) ?_
  intro p e s m below meth c ls hC hS hp hl
  obtain ⟨h_x0, h_x0r0, hB_h_x0r0, h_x0r0r0, h_x0r0r1, hB_h_x0r0r1, h_x0r0r2, ne_x0_x0r0, ne_x0_x0r0r1, ne_x0r0_x0r0r0, ne_x0r0_x0r0r1, ne_x0r0_x0r0r2, ne_x0r0r0_x0r0r1, ne_x0r0r1_x0r0r2⟩ := hp
  obtain ⟨hx, hb, hr, hlk, hml, hown, hts, hnm⟩ := id hC
  have hl : lv_has ls 15 [(0, .ref x0), (1, .int x1)] := hl
  unfold f_X0_areOrdered at h
  have hS0 := hS
  obtain ⟨A, eA⟩ : ∃ A : Array Value, A = [.ref x0, .int x1].toArray := ⟨_, rfl⟩
  rw [← eA] at hC hts ⊢
  obtain ⟨Q, eQ⟩ : ∃ Q : State → Prop, Q = MQ below (TQ D (pZ (fun H b H' => b = r.1 ∧ ON D 0 x0r0 [.ref x0r0r0, .ref x0r0r1, .ref x0r0r2, .int x0r0f3, .int r.2.1, .int x0r0f5, .int x0r0f6] H' ∧ aD D x0r0r1 8 r.2.2 H' ∧ Off (fun a => a = x0r0 ∨ a = x0r0r1) H H'))) A s 66435 528968 (fun q => dB D ≤ q) := ⟨_, rfl⟩
  have hF : Off (fun a => a = x0r0 ∨ a = x0r0r1) s.heap s.heap := Off.rf
  show W p l e R_X0_areOrdered s m A below meth c s.heap [] 0 0 _ _
  rw [← eQ]
  obtain ⟨H, eH⟩ : ∃ H : Heap, H = s.heap := ⟨_, rfl⟩
  obtain ⟨locs, eLc⟩ : ∃ L : List Loc, L = [] := ⟨_, rfl⟩
  have lt_h_x0 := h_x0.lt
  have lt_h_x0r0 := h_x0r0.lt
  have lt_h_x0r0r0 := h_x0r0r0.lt
  have lt_h_x0r0r1 := h_x0r0r1.lt
  have lt_h_x0r0r2 := h_x0r0r2.lt
  rw [← eH, ← eLc]
  have hF : Off (fun a => a = x0r0 ∨ a = x0r0r1) s.heap H := by rw [eH]; exact hF
  rw [← eH] at h_x0
  rw [← eH] at h_x0r0
  rw [← eH] at h_x0r0r0
  rw [← eH] at h_x0r0r1
  rw [← eH] at h_x0r0r2
  have hS : St D s H locs := by rw [eH, eLc]; exact hS
  refine lv_iconst (v := 0) hx hb dX0_areOrdered_0 (by decide) ?_
  refine lv_istore_n (lv' := [(2, .int 0), (0, .ref x0), (1, .int x1)]) hx hb dX0_areOrdered_1 rfl hl (by decide) rfl (fun ls hl => ?_)
  obtain ⟨F14, eF14, h⟩ := lt_step h
  obtain ⟨w15, ew15, h⟩ := bind_step h
  obtain ⟨CE, eCE⟩ : ∃ x : Nat, x = 0 + 1323 := ⟨_, rfl⟩
  obtain ⟨SE, eSE⟩ : ∃ x : Nat, x = 0 + 13995 := ⟨_, rfl⟩
  have hCE : CE ≤ R_X0_areOrdered.cells := (by rw [eCE]; exact Nat.le_of_ble_eq_true rfl)
  have hSE : SE ≤ R_X0_areOrdered.slots := (by rw [eSE]; exact Nat.le_of_ble_eq_true rfl)
  have HL : ∀ (n : Nat) (f1 : Nat → UInt64) (v2 : Int32) (v3 : Int32) (w15 : (Nat → UInt64) × Int32) (hk0 : lp n (fun x => F14 x.1 x.2.1 x.2.2) (f1, v2, v3) = some w15) (cl : Nat) (sl : Nat) (hcl : cl + 147 * n ≤ CE) (hsl : sl + 1555 * n ≤ SE) (H : Heap) (locs : List Loc) (hS : St D s H locs) (hF : Off (fun a => a = x0r0 ∨ a = x0r0r1) s.heap H) (h_x0 : OA D 1 x0 [.ref x0r0] H) (h_x0r0 : ON D 0 x0r0 [.ref x0r0r0, .ref x0r0r1, .ref x0r0r2, .int x0r0f3, .int v2, .int x0r0f5, .int x0r0f6] H) (h_x0r0r0 : aD D x0r0r0 8 x0r0r0c H) (h_x0r0r1 : aD D x0r0r1 8 f1 H) (h_x0r0r2 : aZ D x0r0r2 8 x0r0r2c H) (ls : Array Slot) (hl : lv_has ls 15 [(0, .ref x0), (1, .int x1), (2, .int v3)]) (K37 : ∀ (H : Heap) (locs : List Loc) (hS : St D s H locs) (hF : Off (fun a => a = x0r0 ∨ a = x0r0r1) s.heap H) (h_x0 : OA D 1 x0 [.ref x0r0] H) (h_x0r0 : ON D 0 x0r0 [.ref x0r0r0, .ref x0r0r1, .ref x0r0r2, .int x0r0f3, .int w15.2, .int x0r0f5, .int x0r0f6] H) (h_x0r0r0 : aD D x0r0r0 8 x0r0r0c H) (h_x0r0r1 : aD D x0r0r1 8 w15.1 H) (h_x0r0r2 : aZ D x0r0r2 8 x0r0r2c H) (ls : Array Slot) (hl : lv_has ls 15 [(0, .ref x0), (1, .int x1)]), W p l e R_X0_areOrdered s m A below meth c H locs CE SE Q (F0 m 37 ls [])), W p l e R_X0_areOrdered s m A below meth c H locs cl sl Q (F0 m 2 ls []) := by
    intro n
    induction n with
    | zero => intro f1 v2 v3 w15 hk0 cl sl hcl hsl H locs hS hF h_x0 h_x0r0 h_x0r0r0 h_x0r0r1 h_x0r0r2 ls hl K37; exact lp_zero hk0
    | succ n ih =>
      intro f1 v2 v3 w15 hk0 cl sl hcl hsl H locs hS hF h_x0 h_x0r0 h_x0r0r0 h_x0r0r1 h_x0r0r2 ls hl K37
      obtain ⟨z16, hz, hk⟩ := lp_step hk0
      have h := (congrFun (congrFun (congrFun (eF14) f1) v2) v3).symm.trans hz
      have hcO : cl + 147 ≤ CE := al_out hcl
      have hcE : cl + 147 ≤ R_X0_areOrdered.cells := Nat.le_trans hcO hCE
      have hcN : ∀ a, a ≤ 147 → cl + a + 147 * n ≤ CE := fun a ha => al_next hcl ha
      have hcN0 : cl + 147 * n ≤ CE := al_next hcl (Nat.zero_le _)
      have hsO : sl + 1555 ≤ SE := al_out hsl
      have hsE : sl + 1555 ≤ R_X0_areOrdered.slots := Nat.le_trans hsO hSE
      have hsN : ∀ a, a ≤ 1555 → sl + a + 1555 * n ≤ SE := fun a ha => al_next hsl ha
      have hsN0 : sl + 1555 * n ≤ SE := al_next hsl (Nat.zero_le _)
      clear hcl hsl
      refine lv_iload_n hx hb dX0_areOrdered_2 rfl (lv_at hl 2 rfl) ?_
      refine lv_bipush (v := 8) hx hb dX0_areOrdered_3 (by decide) ?_
      refine lv_icmp_ge (tgt := 37) hx hb dX0_areOrdered_5 (by decide) (fun c17 => ?_) (fun c17 => ?_)
      · have h := it_pos h c17
        obtain rfl := Option.some.inj h
        obtain rfl := id hk
        refine W.widen (k := CE) (n := SE) (by omega) (by omega) ?_
        exact K37 H locs hS hF h_x0 h_x0r0 h_x0r0r0 h_x0r0r1 h_x0r0r2 ls (lv_sub hl [0, 1] rfl)
      · have h := it_neg h c17
        refine lv_aload_n hx hb dX0_areOrdered_8 rfl (lv_at hl 0 rfl) ?_
        refine lv_iload_n hx hb dX0_areOrdered_9 rfl (lv_at hl 1 rfl) ?_
        refine lv_iload_n hx hb dX0_areOrdered_10 rfl (lv_at hl 2 rfl) ?_
        obtain ⟨v18, ev18, h⟩ := lti_step h
        refine r_ishr hx hb ev18 dX0_areOrdered_11 ?_
        refine lv_iconst (v := 3) hx hb dX0_areOrdered_12 (by decide) ?_
        obtain ⟨o19, eo19, h⟩ := bind_step h
        refine r_cp (r_runS (rest := [.ref x0]) (As := [.int v18, .int 3]) hC 2 (m_X0_some   v18 3 o19 eo19) q1244 q1245 q39 q1246 hd_X0_some rfl ⟨Nat.le_of_ble_eq_true rfl, Nat.le_of_ble_eq_true rfl⟩ hS trivial hl.1 rfl (Nat.le_of_ble_eq_true rfl) dX0_areOrdered_13 ⟨by have := hcE; have := hsE; omega, by have := hcE; have := hsE; omega⟩) ?_
        refine lv_iload_n hx hb dX0_areOrdered_16 rfl (lv_at hl 1 rfl) ?_
        refine lv_iconst (v := 2) hx hb dX0_areOrdered_17 (by decide) ?_
        refine lv_iload_n hx hb dX0_areOrdered_18 rfl (lv_at hl 2 rfl) ?_
        obtain ⟨v20, ev20, h⟩ := lti_step h
        refine r_imul hx hb ev20 dX0_areOrdered_19 ?_
        obtain ⟨v21, ev21, h⟩ := lti_step h
        refine r_ishr hx hb ev21 dX0_areOrdered_20 ?_
        refine lv_bipush (v := 8) hx hb dX0_areOrdered_21 (by decide) ?_
        obtain ⟨o22, eo22, h⟩ := bind_step h
        refine r_cp (r_runS (rest := [.int o19, .ref x0]) (As := [.int v21, .int 8]) hC 2 (m_X0_some   v21 8 o22 eo22) q1244 q1245 q39 q1246 hd_X0_some rfl ⟨Nat.le_of_ble_eq_true rfl, Nat.le_of_ble_eq_true rfl⟩ hS trivial hl.1 rfl (Nat.le_of_ble_eq_true rfl) dX0_areOrdered_23 ⟨by have := hcE; have := hsE; omega, by have := hcE; have := hsE; omega⟩) ?_
        refine lv_iload_n hx hb dX0_areOrdered_26 rfl (lv_at hl 2 rfl) ?_
        obtain ⟨o23, eo23, h⟩ := bind_step h
        refine r_cl (r_runV (rest := []) (As := [.int o19, .int o22, .int v3]) hC 3 (m_X0_answer x0 x0r0 x0r0r0 x0r0r1 x0r0r2  x0r0r0c f1 x0r0r2c x0r0f3 v2 x0r0f5 x0r0f6 o19 o22 v3 o23 eo23) q1415 q1417 qs27 q39 q1418 (OA.recv hS h_x0 (C := RX0) rfl) hd_X0_answer rfl ⟨Nat.le_of_ble_eq_true rfl, Nat.le_of_ble_eq_true rfl⟩ hS ⟨h_x0, h_x0r0, hB_h_x0r0, h_x0r0r0, h_x0r0r1, hB_h_x0r0r1, h_x0r0r2, ne_x0_x0r0, ne_x0_x0r0r1, ne_x0r0_x0r0r0, ne_x0r0_x0r0r1, ne_x0r0_x0r0r2, ne_x0r0r0_x0r0r1, ne_x0r0r1_x0r0r2⟩ hl.1 rfl (Nat.le_of_ble_eq_true rfl) dX0_areOrdered_27 ⟨by have := hcE; have := hsE; omega, by have := hcE; have := hsE; omega⟩) hS (fun b H locs hp hS hz => ?_)
        obtain ⟨rfl, h_x0r0, h_x0r0r1, hO⟩ := hp
        have h_x0 := h_x0.off hO (fun z => by rcases z with z | z <;> first | exact ne_x0_x0r0 z | exact ne_x0_x0r0r1 z)
        have h_x0r0r0 := h_x0r0r0.off hO (fun z => by rcases z with z | z <;> first | exact (Ne.symm ne_x0r0_x0r0r0) z | exact ne_x0r0r0_x0r0r1 z)
        have h_x0r0r2 := h_x0r0r2.off hO (fun z => by rcases z with z | z <;> first | exact (Ne.symm ne_x0r0_x0r0r2) z | exact (Ne.symm ne_x0r0r1_x0r0r2) z)
        have hF := hF.fresh hO (fun a ha z => by
          rcases z with z | z
          · exact Or.inl z
          · exact Or.inr (z))
        refine lv_pop2_2 hx hb dX0_areOrdered_30 rfl ?_
        obtain ⟨v24, ev24, h⟩ := lti_step h
        refine lv_iinc (v := v24) (lv' := [(2, .int v24), (0, .ref x0), (1, .int x1)]) hx hb dX0_areOrdered_31 hl (k := 2) rfl (by rw [ev24]; rfl) (by decide) rfl (fun ls hl => ?_)
        refine lv_goto (tgt := 2) hx hb dX0_areOrdered_34 (by decide) ?_
        obtain rfl := Option.some.inj h
        exact ih o23.2.2 o23.2.1 v24 w15 hk _ _ (hcN 147 (Nat.le_of_ble_eq_true rfl)) (hsN 1555 (Nat.le_of_ble_eq_true rfl)) H locs hS hF h_x0 h_x0r0 h_x0r0r0 h_x0r0r1 h_x0r0r2 ls (lv_sub hl [1, 2, 0] rfl) K37
  clear eF14
  refine HL 9 x0r0r1c x0r0f4 0 w15 ew15 _ _ (Nat.le_of_eq eCE.symm) (Nat.le_of_eq eSE.symm) H locs hS hF h_x0 h_x0r0 h_x0r0r0 h_x0r0r1 h_x0r0r2 ls (lv_sub hl [1, 2, 0] rfl) (fun  H locs hS hF h_x0 h_x0r0 h_x0r0r0 h_x0r0r1 h_x0r0r2 ls hl => ?_)
  rw [eCE, eSE]
  refine lv_lconst (v := 0) hx hb dX0_areOrdered_37 rfl ?_
  refine lv_lstore_n (lv' := [(2, .long 0), (0, .ref x0), (1, .int x1)]) hx hb dX0_areOrdered_38 rfl hl (by decide) rfl (fun ls hl => ?_)
  refine lv_lconst (v := 0) hx hb dX0_areOrdered_39 rfl ?_
  refine lv_lstore (lv' := [(4, .long 0), (2, .long 0), (0, .ref x0), (1, .int x1)]) hx hb dX0_areOrdered_40 hl (by decide) rfl (fun ls hl => ?_)
  refine lv_iconst (v := 1) hx hb dX0_areOrdered_42 (by decide) ?_
  refine lv_istore (lv' := [(6, .int 1), (4, .long 0), (2, .long 0), (0, .ref x0), (1, .int x1)]) hx hb dX0_areOrdered_43 hl (by decide) rfl (fun ls hl => ?_)
  refine lv_iconst (v := 0) hx hb dX0_areOrdered_45 (by decide) ?_
  refine lv_istore (lv' := [(7, .int 0), (6, .int 1), (4, .long 0), (2, .long 0), (0, .ref x0), (1, .int x1)]) hx hb dX0_areOrdered_46 hl (by decide) rfl (fun ls hl => ?_)
  obtain ⟨F356, eF356, h⟩ := lt_step h
  obtain ⟨w357, ew357, h⟩ := bind_step h
  obtain ⟨CE, eCE⟩ : ∃ x : Nat, x = 1323 + 64035 := ⟨_, rfl⟩
  obtain ⟨SE, eSE⟩ : ∃ x : Nat, x = 13995 + 505476 := ⟨_, rfl⟩
  have hCE : CE ≤ R_X0_areOrdered.cells := (by rw [eCE]; exact Nat.le_of_ble_eq_true rfl)
  have hSE : SE ≤ R_X0_areOrdered.slots := (by rw [eSE]; exact Nat.le_of_ble_eq_true rfl)
  have HL : ∀ (n : Nat) (v25 : Int64) (v26 : Bool) (v27 : Int32) (w357 : Int64 × Bool) (hk0 : lp n (fun x => F356 x.1 x.2.1 x.2.2) (v25, v26, v27) = some w357) (cl : Nat) (sl : Nat) (hcl : cl + 7115 * n ≤ CE) (hsl : sl + 56164 * n ≤ SE) (H : Heap) (locs : List Loc) (hS : St D s H locs) (hF : Off (fun a => a = x0r0 ∨ a = x0r0r1) s.heap H) (h_x0 : OA D 1 x0 [.ref x0r0] H) (h_x0r0 : ON D 0 x0r0 [.ref x0r0r0, .ref x0r0r1, .ref x0r0r2, .int x0r0f3, .int w15.2, .int x0r0f5, .int x0r0f6] H) (h_x0r0r0 : aD D x0r0r0 8 x0r0r0c H) (h_x0r0r1 : aD D x0r0r1 8 w15.1 H) (h_x0r0r2 : aZ D x0r0r2 8 x0r0r2c H) (ls : Array Slot) (hl : lv_has ls 15 [(0, .ref x0), (1, .int x1), (2, .long v25), (4, .long 0), (6, .int (bI v26)), (7, .int v27)]) (K484 : ∀ (H : Heap) (locs : List Loc) (hS : St D s H locs) (hF : Off (fun a => a = x0r0 ∨ a = x0r0r1) s.heap H) (h_x0 : OA D 1 x0 [.ref x0r0] H) (h_x0r0 : ON D 0 x0r0 [.ref x0r0r0, .ref x0r0r1, .ref x0r0r2, .int x0r0f3, .int w15.2, .int x0r0f5, .int x0r0f6] H) (h_x0r0r0 : aD D x0r0r0 8 x0r0r0c H) (h_x0r0r1 : aD D x0r0r1 8 w15.1 H) (h_x0r0r2 : aZ D x0r0r2 8 x0r0r2c H) (ls : Array Slot) (hl : lv_has ls 15 [(0, .ref x0), (1, .int x1), (2, .long w357.1), (4, .long 0), (6, .int (bI w357.2))]), W p l e R_X0_areOrdered s m A below meth c H locs CE SE Q (F0 m 484 ls [])), W p l e R_X0_areOrdered s m A below meth c H locs cl sl Q (F0 m 48 ls []) := by
    intro n
    induction n with
    | zero => intro v25 v26 v27 w357 hk0 cl sl hcl hsl H locs hS hF h_x0 h_x0r0 h_x0r0r0 h_x0r0r1 h_x0r0r2 ls hl K484; exact lp_zero hk0
    | succ n ih =>
      intro v25 v26 v27 w357 hk0 cl sl hcl hsl H locs hS hF h_x0 h_x0r0 h_x0r0r0 h_x0r0r1 h_x0r0r2 ls hl K484
      obtain ⟨z358, hz, hk⟩ := lp_step hk0
      have h := (congrFun (congrFun (congrFun (eF356) v25) v26) v27).symm.trans hz
      have hcO : cl + 7115 ≤ CE := al_out hcl
      have hcE : cl + 7115 ≤ R_X0_areOrdered.cells := Nat.le_trans hcO hCE
      have hcN : ∀ a, a ≤ 7115 → cl + a + 7115 * n ≤ CE := fun a ha => al_next hcl ha
      have hcN0 : cl + 7115 * n ≤ CE := al_next hcl (Nat.zero_le _)
      have hsO : sl + 56164 ≤ SE := al_out hsl
      have hsE : sl + 56164 ≤ R_X0_areOrdered.slots := Nat.le_trans hsO hSE
      have hsN : ∀ a, a ≤ 56164 → sl + a + 56164 * n ≤ SE := fun a ha => al_next hsl ha
      have hsN0 : sl + 56164 * n ≤ SE := al_next hsl (Nat.zero_le _)
      clear hcl hsl
      refine lv_iload hx hb dX0_areOrdered_48 (lv_at hl 5 rfl) ?_
      refine lv_bipush (v := 8) hx hb dX0_areOrdered_50 (by decide) ?_
      refine lv_icmp_ge (tgt := 484) hx hb dX0_areOrdered_52 (by decide) (fun c359 => ?_) (fun c359 => ?_)
      · have h := it_pos h c359
        obtain rfl := Option.some.inj h
        obtain rfl := id hk
        refine W.widen (k := CE) (n := SE) (by omega) (by omega) ?_
        exact K484 H locs hS hF h_x0 h_x0r0 h_x0r0r0 h_x0r0r1 h_x0r0r2 ls (lv_sub hl [0, 1, 2, 3, 4] rfl)
      · have h := it_neg h c359
        refine lv_lload_n hx hb dX0_areOrdered_55 rfl (lv_at hl 2 rfl) ?_
        refine lv_aload_n hx hb dX0_areOrdered_56 rfl (lv_at hl 0 rfl) ?_
        refine lv_iload hx hb dX0_areOrdered_57 (lv_at hl 5 rfl) ?_
        obtain ⟨o360, eo360, h⟩ := bind_step h
        refine r_cl (r_runV (rest := [.long v25]) (As := [.int v27]) hC 1 (m_X0_told_2 x0 x0r0 x0r0r0 x0r0r1 x0r0r2  x0r0r0c w15.1 x0r0r2c x0r0f3 w15.2 x0r0f5 x0r0f6 v27 o360 eo360) q1194 q1196 qs12 q39 q1197 (OA.recv hS h_x0 (C := RX0) rfl) hd_X0_told_2 rfl ⟨Nat.le_of_ble_eq_true rfl, Nat.le_of_ble_eq_true rfl⟩ hS ⟨h_x0, h_x0r0, h_x0r0r0, h_x0r0r1, h_x0r0r2⟩ hl.1 rfl (Nat.le_of_ble_eq_true rfl) dX0_areOrdered_59 ⟨by have := hcE; have := hsE; omega, by have := hcE; have := hsE; omega⟩) hS (fun b H locs hp hS hz => ?_)
        obtain ⟨eb_, hO⟩ := hp
        rw [eb_]
        have h_x0 := h_x0.ext hO
        have h_x0r0 := h_x0r0.ext hO
        have h_x0r0r0 := h_x0r0r0.ext hO
        have h_x0r0r1 := h_x0r0r1.ext hO
        have h_x0r0r2 := h_x0r0r2.ext hO
        have hF := hF.trans (hO.mono (fun _ _ z => z.elim))
        obtain ⟨v361, ev361, h⟩ := ltl_step h
        refine r_ladd hx hb ev361 dX0_areOrdered_62 ?_
        refine lv_lstore_n (lv' := [(2, .long v361), (0, .ref x0), (1, .int x1), (4, .long 0), (6, .int (bI v26)), (7, .int v27)]) hx hb dX0_areOrdered_63 rfl hl (by decide) rfl (fun ls hl => ?_)
        refine lv_bipush (v := 8) hx hb dX0_areOrdered_64 (by decide) ?_
        refine lv_istore (lv' := [(8, .int 8), (2, .long v361), (0, .ref x0), (1, .int x1), (4, .long 0), (6, .int (bI v26)), (7, .int v27)]) hx hb dX0_areOrdered_66 hl (by decide) rfl (fun ls hl => ?_)
        refine lv_iconst (v := (-1)) hx hb dX0_areOrdered_68 (by decide) ?_
        refine lv_istore (lv' := [(9, .int (-1)), (8, .int 8), (2, .long v361), (0, .ref x0), (1, .int x1), (4, .long 0), (6, .int (bI v26)), (7, .int v27)]) hx hb dX0_areOrdered_69 hl (by decide) rfl (fun ls hl => ?_)
        refine lv_iconst (v := 0) hx hb dX0_areOrdered_71 (by decide) ?_
        refine lv_istore (lv' := [(10, .int 0), (9, .int (-1)), (8, .int 8), (2, .long v361), (0, .ref x0), (1, .int x1), (4, .long 0), (6, .int (bI v26)), (7, .int v27)]) hx hb dX0_areOrdered_72 hl (by decide) rfl (fun ls hl => ?_)
        obtain ⟨F676, eF676, h⟩ := lt_step h
        obtain ⟨w677, ew677, h⟩ := bind_step h
        obtain ⟨CE, eCE⟩ : ∃ x : Nat, x = cl + 77 + 7038 := ⟨_, rfl⟩
        obtain ⟨SE, eSE⟩ : ∃ x : Nat, x = sl + 616 + 55548 := ⟨_, rfl⟩
        have hCE : CE ≤ R_X0_areOrdered.cells := (by have := hcE; omega)
        have hSE : SE ≤ R_X0_areOrdered.slots := (by have := hsE; omega)
        have HL : ∀ (n : Nat) (v362 : Bool) (v363 : Int32) (v364 : Int32) (v365 : Int32) (w677 : Bool × Int32 × Int32) (hk0 : lp n (fun x => F676 x.1 x.2.1 x.2.2.1 x.2.2.2) (v362, v363, v364, v365) = some w677) (cl : Nat) (sl : Nat) (hcl : cl + 782 * n ≤ CE) (hsl : sl + 6172 * n ≤ SE) (H : Heap) (locs : List Loc) (hS : St D s H locs) (hF : Off (fun a => a = x0r0 ∨ a = x0r0r1) s.heap H) (h_x0 : OA D 1 x0 [.ref x0r0] H) (h_x0r0 : ON D 0 x0r0 [.ref x0r0r0, .ref x0r0r1, .ref x0r0r2, .int x0r0f3, .int w15.2, .int x0r0f5, .int x0r0f6] H) (h_x0r0r0 : aD D x0r0r0 8 x0r0r0c H) (h_x0r0r1 : aD D x0r0r1 8 w15.1 H) (h_x0r0r2 : aZ D x0r0r2 8 x0r0r2c H) (ls : Array Slot) (hl : lv_has ls 15 [(0, .ref x0), (1, .int x1), (2, .long v361), (4, .long 0), (6, .int (bI v362)), (7, .int v27), (8, .int v363), (9, .int v364), (10, .int v365)]) (K436 : ∀ (H : Heap) (locs : List Loc) (hS : St D s H locs) (hF : Off (fun a => a = x0r0 ∨ a = x0r0r1) s.heap H) (h_x0 : OA D 1 x0 [.ref x0r0] H) (h_x0r0 : ON D 0 x0r0 [.ref x0r0r0, .ref x0r0r1, .ref x0r0r2, .int x0r0f3, .int w15.2, .int x0r0f5, .int x0r0f6] H) (h_x0r0r0 : aD D x0r0r0 8 x0r0r0c H) (h_x0r0r1 : aD D x0r0r1 8 w15.1 H) (h_x0r0r2 : aZ D x0r0r2 8 x0r0r2c H) (ls : Array Slot) (hl : lv_has ls 15 [(0, .ref x0), (1, .int x1), (2, .long v361), (4, .long 0), (6, .int (bI w677.1)), (7, .int v27), (8, .int w677.2.1), (9, .int w677.2.2)]), W p l e R_X0_areOrdered s m A below meth c H locs CE SE Q (F0 m 436 ls [])), W p l e R_X0_areOrdered s m A below meth c H locs cl sl Q (F0 m 74 ls []) := by
          intro n
          induction n with
          | zero => intro v362 v363 v364 v365 w677 hk0 cl sl hcl hsl H locs hS hF h_x0 h_x0r0 h_x0r0r0 h_x0r0r1 h_x0r0r2 ls hl K436; exact lp_zero hk0
          | succ n ih =>
            intro v362 v363 v364 v365 w677 hk0 cl sl hcl hsl H locs hS hF h_x0 h_x0r0 h_x0r0r0 h_x0r0r1 h_x0r0r2 ls hl K436
            obtain ⟨z678, hz, hk⟩ := lp_step hk0
            have h := (congrFun (congrFun (congrFun (congrFun (eF676) v362) v363) v364) v365).symm.trans hz
            have hcO : cl + 782 ≤ CE := al_out hcl
            have hcE : cl + 782 ≤ R_X0_areOrdered.cells := Nat.le_trans hcO hCE
            have hcN : ∀ a, a ≤ 782 → cl + a + 782 * n ≤ CE := fun a ha => al_next hcl ha
            have hcN0 : cl + 782 * n ≤ CE := al_next hcl (Nat.zero_le _)
            have hsO : sl + 6172 ≤ SE := al_out hsl
            have hsE : sl + 6172 ≤ R_X0_areOrdered.slots := Nat.le_trans hsO hSE
            have hsN : ∀ a, a ≤ 6172 → sl + a + 6172 * n ≤ SE := fun a ha => al_next hsl ha
            have hsN0 : sl + 6172 * n ≤ SE := al_next hsl (Nat.zero_le _)
            clear hcl hsl
            refine lv_iload hx hb dX0_areOrdered_74 (lv_at hl 8 rfl) ?_
            refine lv_bipush (v := 8) hx hb dX0_areOrdered_76 (by decide) ?_
            refine lv_icmp_ge (tgt := 436) hx hb dX0_areOrdered_78 (by decide) (fun c679 => ?_) (fun c679 => ?_)
            · have h := it_pos h c679
              obtain rfl := Option.some.inj h
              obtain rfl := id hk
              refine W.widen (k := CE) (n := SE) (by omega) (by omega) ?_
              exact K436 H locs hS hF h_x0 h_x0r0 h_x0r0r0 h_x0r0r1 h_x0r0r2 ls (lv_sub hl [0, 1, 2, 3, 4, 5, 6, 7] rfl)
            · have h := it_neg h c679
              refine lv_aload_n hx hb dX0_areOrdered_81 rfl (lv_at hl 0 rfl) ?_
              refine r_get hx hb hts hown hS h_x0 rfl in_X0 0 (by decide) q936 rfl (v := .ref x0r0) rfl dX0_areOrdered_82 ?_
              refine lv_iload hx hb dX0_areOrdered_85 (lv_at hl 5 rfl) ?_
              refine lv_iload hx hb dX0_areOrdered_87 (lv_at hl 8 rfl) ?_
              refine lv_iload hx hb dX0_areOrdered_89 (lv_at hl 5 rfl) ?_
              refine lv_iload hx hb dX0_areOrdered_91 (lv_at hl 8 rfl) ?_
              obtain ⟨v680, ev680, h⟩ := lti_step h
              refine r_iadd hx hb ev680 dX0_areOrdered_93 ?_
              refine lv_iconst (v := 1) hx hb dX0_areOrdered_94 (by decide) ?_
              obtain ⟨v681, ev681, h⟩ := lti_step h
              refine r_iand hx hb ev681 dX0_areOrdered_95 ?_
              obtain ⟨o682, eo682, h⟩ := bind_step h
              refine r_ci (r_runV (rest := []) (As := [.int v27, .int v365, .int v681]) hC 3 (m_X1_heightOrder x0r0 x0r0r0 x0r0r1 x0r0r2  x0r0r0c w15.1 x0r0r2c x0r0f3 w15.2 x0r0f5 x0r0f6 v27 v365 v681 o682 eo682) q1604 q1288 q1289 q46 q1290 (OA.recv hS h_x0r0.OA (C := RX1) rfl) hd_X1_heightOrder rfl ⟨Nat.le_of_ble_eq_true rfl, Nat.le_of_ble_eq_true rfl⟩ hS ⟨h_x0r0, h_x0r0r0, h_x0r0r1, h_x0r0r2⟩ hl.1 rfl (Nat.le_of_ble_eq_true rfl) dX0_areOrdered_96 ⟨by have := hcE; have := hsE; omega, by have := hcE; have := hsE; omega⟩) hS (fun b H locs hp hS hz => ?_)
              obtain ⟨eb_, hO⟩ := hp
              rw [eb_]
              have h_x0 := h_x0.ext hO
              have h_x0r0 := h_x0r0.ext hO
              have h_x0r0r0 := h_x0r0r0.ext hO
              have h_x0r0r1 := h_x0r0r1.ext hO
              have h_x0r0r2 := h_x0r0r2.ext hO
              have hF := hF.trans (hO.mono (fun _ _ z => z.elim))
              refine lv_istore (lv' := [(11, .int o682), (0, .ref x0), (1, .int x1), (2, .long v361), (4, .long 0), (6, .int (bI v362)), (7, .int v27), (8, .int v363), (9, .int v364), (10, .int v365)]) hx hb dX0_areOrdered_99 hl (by decide) rfl (fun ls hl => ?_)
              refine lv_aload_n hx hb dX0_areOrdered_101 rfl (lv_at hl 1 rfl) ?_
              refine lv_iload hx hb dX0_areOrdered_102 (lv_at hl 6 rfl) ?_
              obtain ⟨o683, eo683, h⟩ := bind_step h
              refine r_cl (r_runV (rest := []) (As := [.int v27]) hC 1 (m_X0_told_2 x0 x0r0 x0r0r0 x0r0r1 x0r0r2  x0r0r0c w15.1 x0r0r2c x0r0f3 w15.2 x0r0f5 x0r0f6 v27 o683 eo683) q1194 q1196 qs12 q39 q1197 (OA.recv hS h_x0 (C := RX0) rfl) hd_X0_told_2 rfl ⟨Nat.le_of_ble_eq_true rfl, Nat.le_of_ble_eq_true rfl⟩ hS ⟨h_x0, h_x0r0, h_x0r0r0, h_x0r0r1, h_x0r0r2⟩ hl.1 rfl (Nat.le_of_ble_eq_true rfl) dX0_areOrdered_104 ⟨by have := hcE; have := hsE; omega, by have := hcE; have := hsE; omega⟩) hS (fun b H locs hp hS hz => ?_)
              obtain ⟨eb_, hO⟩ := hp
              rw [eb_]
              have h_x0 := h_x0.ext hO
              have h_x0r0 := h_x0r0.ext hO
              have h_x0r0r0 := h_x0r0r0.ext hO
              have h_x0r0r1 := h_x0r0r1.ext hO
              have h_x0r0r2 := h_x0r0r2.ext hO
              have hF := hF.trans (hO.mono (fun _ _ z => z.elim))
              refine lv_aload_n hx hb dX0_areOrdered_107 rfl (lv_at hl 1 rfl) ?_
              refine lv_iload hx hb dX0_areOrdered_108 (lv_at hl 9 rfl) ?_
              obtain ⟨o684, eo684, h⟩ := bind_step h
              refine r_cl (r_runV (rest := [.long o683]) (As := [.int v365]) hC 1 (m_X0_told_2 x0 x0r0 x0r0r0 x0r0r1 x0r0r2  x0r0r0c w15.1 x0r0r2c x0r0f3 w15.2 x0r0f5 x0r0f6 v365 o684 eo684) q1194 q1196 qs12 q39 q1197 (OA.recv hS h_x0 (C := RX0) rfl) hd_X0_told_2 rfl ⟨Nat.le_of_ble_eq_true rfl, Nat.le_of_ble_eq_true rfl⟩ hS ⟨h_x0, h_x0r0, h_x0r0r0, h_x0r0r1, h_x0r0r2⟩ hl.1 rfl (Nat.le_of_ble_eq_true rfl) dX0_areOrdered_110 ⟨by have := hcE; have := hsE; omega, by have := hcE; have := hsE; omega⟩) hS (fun b H locs hp hS hz => ?_)
              obtain ⟨eb_, hO⟩ := hp
              rw [eb_]
              have h_x0 := h_x0.ext hO
              have h_x0r0 := h_x0r0.ext hO
              have h_x0r0r0 := h_x0r0r0.ext hO
              have h_x0r0r1 := h_x0r0r1.ext hO
              have h_x0r0r2 := h_x0r0r2.ext hO
              have hF := hF.trans (hO.mono (fun _ _ z => z.elim))
              obtain ⟨v685, ev685, h⟩ := ltl_step h
              refine r_lsub hx hb ev685 dX0_areOrdered_113 ?_
              refine lv_lstore (lv' := [(12, .long v685), (11, .int o682), (0, .ref x0), (1, .int x1), (2, .long v361), (4, .long 0), (6, .int (bI v362)), (7, .int v27), (8, .int v363), (9, .int v364), (10, .int v365)]) hx hb dX0_areOrdered_114 hl (by decide) rfl (fun ls hl => ?_)
              refine lv_lload hx hb dX0_areOrdered_116 (lv_at hl 0 rfl) ?_
              refine lv_lconst (v := 0) hx hb dX0_areOrdered_118 rfl ?_
              obtain ⟨v686, ev686, h⟩ := lti_step h
              refine r_lcmp hx hb ev686 dX0_areOrdered_119 ?_
              obtain ⟨K688, eK688, h⟩ := lt_step h
              have HK688 : ∀ (v687 : Bool) (h : K688 v687 = some z678) (H : Heap) (locs : List Loc) (hS : St D s H locs) (hF : Off (fun a => a = x0r0 ∨ a = x0r0r1) s.heap H) (h_x0 : OA D 1 x0 [.ref x0r0] H) (h_x0r0 : ON D 0 x0r0 [.ref x0r0r0, .ref x0r0r1, .ref x0r0r2, .int x0r0f3, .int w15.2, .int x0r0f5, .int x0r0f6] H) (h_x0r0r0 : aD D x0r0r0 8 x0r0r0c H) (h_x0r0r1 : aD D x0r0r1 8 w15.1 H) (h_x0r0r2 : aZ D x0r0r2 8 x0r0r2c H) (ls : Array Slot) (hl : lv_has ls 15 [(0, .ref x0), (1, .int x1), (2, .long v361), (4, .long 0), (6, .int (bI v362)), (7, .int v27), (8, .int v363), (9, .int v364), (10, .int v365), (11, .int o682), (12, .long v685)]), W p l e R_X0_areOrdered s m A below meth c H locs (cl + 156) (sl + 1234) Q (F0 m 158 ls [.int (bI v687)]) := by
                intro v687 h H locs hS hF h_x0 h_x0r0 h_x0r0r0 h_x0r0r1 h_x0r0r2 ls hl
                subst eK688
                refine lv_istore (lv' := [(14, .int (bI v687)), (0, .ref x0), (1, .int x1), (2, .long v361), (4, .long 0), (6, .int (bI v362)), (7, .int v27), (8, .int v363), (9, .int v364), (10, .int v365), (11, .int o682), (12, .long v685)]) hx hb dX0_areOrdered_158 hl (by decide) rfl (fun ls hl => ?_)
                refine lv_iload hx hb dX0_areOrdered_160 (lv_at hl 5 rfl) ?_
                obtain ⟨K690, eK690, h⟩ := lt_step h
                have HK690 : ∀ (v689 : Bool) (h : K690 v689 = some z678) (H : Heap) (locs : List Loc) (hS : St D s H locs) (hF : Off (fun a => a = x0r0 ∨ a = x0r0r1) s.heap H) (h_x0 : OA D 1 x0 [.ref x0r0] H) (h_x0r0 : ON D 0 x0r0 [.ref x0r0r0, .ref x0r0r1, .ref x0r0r2, .int x0r0f3, .int w15.2, .int x0r0f5, .int x0r0f6] H) (h_x0r0r0 : aD D x0r0r0 8 x0r0r0c H) (h_x0r0r1 : aD D x0r0r1 8 w15.1 H) (h_x0r0r2 : aZ D x0r0r2 8 x0r0r2c H) (ls : Array Slot) (hl : lv_has ls 15 [(0, .ref x0), (1, .int x1), (2, .long v361), (4, .long 0), (7, .int v27), (8, .int v363), (9, .int v364), (10, .int v365), (11, .int o682)]), W p l e R_X0_areOrdered s m A below meth c H locs (cl + 782) (sl + 6172) Q (F0 m 403 ls [.int (bI v689)]) := by
                  intro v689 h H locs hS hF h_x0 h_x0r0 h_x0r0r0 h_x0r0r1 h_x0r0r2 ls hl
                  subst eK690
                  refine lv_istore (lv' := [(6, .int (bI v689)), (0, .ref x0), (1, .int x1), (2, .long v361), (4, .long 0), (7, .int v27), (8, .int v363), (9, .int v364), (10, .int v365), (11, .int o682)]) hx hb dX0_areOrdered_403 hl (by decide) rfl (fun ls hl => ?_)
                  refine lv_iload hx hb dX0_areOrdered_405 (lv_at hl 9 rfl) ?_
                  obtain ⟨K693, eK693, h⟩ := lt_step h
                  have HK693 : ∀ (v691 : Int32) (v692 : Int32) (h : K693 v691 v692 = some z678) (H : Heap) (locs : List Loc) (hS : St D s H locs) (hF : Off (fun a => a = x0r0 ∨ a = x0r0r1) s.heap H) (h_x0 : OA D 1 x0 [.ref x0r0] H) (h_x0r0 : ON D 0 x0r0 [.ref x0r0r0, .ref x0r0r1, .ref x0r0r2, .int x0r0f3, .int w15.2, .int x0r0f5, .int x0r0f6] H) (h_x0r0r0 : aD D x0r0r0 8 x0r0r0c H) (h_x0r0r1 : aD D x0r0r1 8 w15.1 H) (h_x0r0r2 : aZ D x0r0r2 8 x0r0r2c H) (ls : Array Slot) (hl : lv_has ls 15 [(0, .ref x0), (1, .int x1), (2, .long v361), (4, .long 0), (6, .int (bI v689)), (7, .int v27), (8, .int v691), (9, .int v692), (10, .int v365)]), W p l e R_X0_areOrdered s m A below meth c H locs (cl + 782) (sl + 6172) Q (F0 m 430 ls []) := by
                    intro v691 v692 h H locs hS hF h_x0 h_x0r0 h_x0r0r0 h_x0r0r1 h_x0r0r2 ls hl
                    subst eK693
                    obtain ⟨v694, ev694, h⟩ := lti_step h
                    refine lv_iinc (v := v694) (lv' := [(10, .int v694), (0, .ref x0), (1, .int x1), (2, .long v361), (4, .long 0), (6, .int (bI v689)), (7, .int v27), (8, .int v691), (9, .int v692)]) hx hb dX0_areOrdered_430 hl (k := 8) rfl (by rw [ev694]; rfl) (by decide) rfl (fun ls hl => ?_)
                    refine lv_goto (tgt := 74) hx hb dX0_areOrdered_433 (by decide) ?_
                    obtain rfl := Option.some.inj h
                    exact ih v689 v691 v692 v694 w677 hk _ _ (hcN 782 (Nat.le_of_ble_eq_true rfl)) (hsN 6172 (Nat.le_of_ble_eq_true rfl)) H locs hS hF h_x0 h_x0r0 h_x0r0r0 h_x0r0r1 h_x0r0r2 ls (lv_sub hl [1, 2, 3, 4, 5, 6, 7, 8, 0] rfl) K436
                  clear eK693
                  refine lv_if_ne (tgt := 430) hx hb dX0_areOrdered_407 (by decide) (fun c695 => ?_) (fun c695 => ?_)
                  · have h := it_neg h c695
                    exact HK693 v363 v364 h H locs hS hF h_x0 h_x0r0 h_x0r0r0 h_x0r0r1 h_x0r0r2 ls (lv_sub hl [1, 2, 3, 4, 0, 5, 6, 7, 8] rfl)
                  · have h := it_pos h c695
                    refine lv_iload hx hb dX0_areOrdered_410 (lv_at hl 8 rfl) ?_
                    refine lv_iload hx hb dX0_areOrdered_412 (lv_at hl 6 rfl) ?_
                    obtain ⟨K697, eK697, h⟩ := lt_step h
                    have HK697 : ∀ (v696 : Int32) (h : K697 v696 = some z678) (H : Heap) (locs : List Loc) (hS : St D s H locs) (hF : Off (fun a => a = x0r0 ∨ a = x0r0r1) s.heap H) (h_x0 : OA D 1 x0 [.ref x0r0] H) (h_x0r0 : ON D 0 x0r0 [.ref x0r0r0, .ref x0r0r1, .ref x0r0r2, .int x0r0f3, .int w15.2, .int x0r0f5, .int x0r0f6] H) (h_x0r0r0 : aD D x0r0r0 8 x0r0r0c H) (h_x0r0r1 : aD D x0r0r1 8 w15.1 H) (h_x0r0r2 : aZ D x0r0r2 8 x0r0r2c H) (ls : Array Slot) (hl : lv_has ls 15 [(0, .ref x0), (1, .int x1), (2, .long v361), (4, .long 0), (6, .int (bI v689)), (7, .int v27), (10, .int v365)]), W p l e R_X0_areOrdered s m A below meth c H locs (cl + 782) (sl + 6172) Q (F0 m 424 ls [.int v696]) := by
                      intro v696 h H locs hS hF h_x0 h_x0r0 h_x0r0r0 h_x0r0r1 h_x0r0r2 ls hl
                      subst eK697
                      refine lv_istore (lv' := [(8, .int v696), (0, .ref x0), (1, .int x1), (2, .long v361), (4, .long 0), (6, .int (bI v689)), (7, .int v27), (10, .int v365)]) hx hb dX0_areOrdered_424 hl (by decide) rfl (fun ls hl => ?_)
                      refine lv_iload hx hb dX0_areOrdered_426 (lv_at hl 7 rfl) ?_
                      refine lv_istore (lv' := [(9, .int v365), (8, .int v696), (0, .ref x0), (1, .int x1), (2, .long v361), (4, .long 0), (6, .int (bI v689)), (7, .int v27), (10, .int v365)]) hx hb dX0_areOrdered_428 hl (by decide) rfl (fun ls hl => ?_)
                      exact HK693 v696 v365 h H locs hS hF h_x0 h_x0r0 h_x0r0r0 h_x0r0r1 h_x0r0r2 ls (lv_sub hl [2, 3, 4, 5, 6, 7, 1, 0, 8] rfl)
                    clear eK697
                    refine lv_icmp_ge (tgt := 422) hx hb dX0_areOrdered_414 (by decide) (fun c698 => ?_) (fun c698 => ?_)
                    · have h := it_pos h c698
                      refine lv_iload hx hb dX0_areOrdered_422 (lv_at hl 6 rfl) ?_
                      exact HK697 v363 h H locs hS hF h_x0 h_x0r0 h_x0r0r0 h_x0r0r1 h_x0r0r2 ls (lv_sub hl [1, 2, 3, 4, 0, 5, 8] rfl)
                    · have h := it_neg h c698
                      refine lv_iload hx hb dX0_areOrdered_417 (lv_at hl 8 rfl) ?_
                      refine lv_goto (tgt := 424) hx hb dX0_areOrdered_419 (by decide) ?_
                      exact HK697 v365 h H locs hS hF h_x0 h_x0r0 h_x0r0r0 h_x0r0r1 h_x0r0r2 ls (lv_sub hl [1, 2, 3, 4, 0, 5, 8] rfl)
                clear eK690
                obtain ⟨K699, eK699, h⟩ := lt_step h
                have HK699 : ∀  (h : K699 () = some z678) (H : Heap) (locs : List Loc) (hS : St D s H locs) (hF : Off (fun a => a = x0r0 ∨ a = x0r0r1) s.heap H) (h_x0 : OA D 1 x0 [.ref x0r0] H) (h_x0r0 : ON D 0 x0r0 [.ref x0r0r0, .ref x0r0r1, .ref x0r0r2, .int x0r0f3, .int w15.2, .int x0r0f5, .int x0r0f6] H) (h_x0r0r0 : aD D x0r0r0 8 x0r0r0c H) (h_x0r0r1 : aD D x0r0r1 8 w15.1 H) (h_x0r0r2 : aZ D x0r0r2 8 x0r0r2c H) (ls : Array Slot) (hl : lv_has ls 15 [(0, .ref x0), (1, .int x1), (2, .long v361), (4, .long 0), (7, .int v27), (8, .int v363), (9, .int v364), (10, .int v365), (11, .int o682)]), W p l e R_X0_areOrdered s m A below meth c H locs (cl + 782) (sl + 6172) Q (F0 m 402 ls []) := by
                  intro h H locs hS hF h_x0 h_x0r0 h_x0r0r0 h_x0r0r1 h_x0r0r2 ls hl
                  subst eK699
                  refine lv_iconst (v := 0) hx hb dX0_areOrdered_402 (by decide) ?_
                  exact HK690 false h H locs hS hF h_x0 h_x0r0 h_x0r0r0 h_x0r0r1 h_x0r0r2 ls (lv_sub hl [0, 1, 2, 3, 4, 5, 6, 7, 8] rfl)
                clear eK699
                refine r_ifz_eq (tgt := 402) hx hb dX0_areOrdered_162 (by decide) (fun c700 => ?_) (fun c700 => ?_)
                · have h := it_neg h (by rw [c700]; decide)
                  refine W.widen (k := cl + 782) (n := sl + 6172) (by omega) (by omega) ?_
                  exact HK699  h H locs hS hF h_x0 h_x0r0 h_x0r0r0 h_x0r0r1 h_x0r0r2 ls (lv_sub hl [1, 2, 3, 4, 6, 7, 8, 9, 10] rfl)
                · have h := it_pos h (by rw [c700])
                  refine lv_iload hx hb dX0_areOrdered_165 (lv_at hl 10 rfl) ?_
                  refine lv_aload_n hx hb dX0_areOrdered_167 rfl (lv_at hl 1 rfl) ?_
                  refine r_get hx hb hts hown hS h_x0 rfl in_X0 0 (by decide) q936 rfl (v := .ref x0r0) rfl dX0_areOrdered_168 ?_
                  refine lv_iload hx hb dX0_areOrdered_171 (lv_at hl 9 rfl) ?_
                  refine lv_iload hx hb dX0_areOrdered_173 (lv_at hl 6 rfl) ?_
                  refine lv_iconst (v := 0) hx hb dX0_areOrdered_175 (by decide) ?_
                  obtain ⟨o701, eo701, h⟩ := bind_step h
                  refine r_ci (r_runV (rest := [.int o682]) (As := [.int v365, .int v27, .int 0]) hC 3 (m_X1_heightOrder x0r0 x0r0r0 x0r0r1 x0r0r2  x0r0r0c w15.1 x0r0r2c x0r0f3 w15.2 x0r0f5 x0r0f6 v365 v27 0 o701 eo701) q1604 q1288 q1289 q46 q1290 (OA.recv hS h_x0r0.OA (C := RX1) rfl) hd_X1_heightOrder rfl ⟨Nat.le_of_ble_eq_true rfl, Nat.le_of_ble_eq_true rfl⟩ hS ⟨h_x0r0, h_x0r0r0, h_x0r0r1, h_x0r0r2⟩ hl.1 rfl (Nat.le_of_ble_eq_true rfl) dX0_areOrdered_176 ⟨by have := hcE; have := hsE; omega, by have := hcE; have := hsE; omega⟩) hS (fun b H locs hp hS hz => ?_)
                  obtain ⟨eb_, hO⟩ := hp
                  rw [eb_]
                  have h_x0 := h_x0.ext hO
                  have h_x0r0 := h_x0r0.ext hO
                  have h_x0r0r0 := h_x0r0r0.ext hO
                  have h_x0r0r1 := h_x0r0r1.ext hO
                  have h_x0r0r2 := h_x0r0r2.ext hO
                  have hF := hF.trans (hO.mono (fun _ _ z => z.elim))
                  obtain ⟨v702, ev702, h⟩ := lti_step h
                  refine r_ineg hx hb ev702 dX0_areOrdered_179 ?_
                  refine lv_icmp_ne (tgt := 402) hx hb dX0_areOrdered_180 (by decide) (fun c703 => ?_) (fun c703 => ?_)
                  · have h := it_neg h c703
                    refine W.widen (k := cl + 782) (n := sl + 6172) (by omega) (by omega) ?_
                    exact HK699  h H locs hS hF h_x0 h_x0r0 h_x0r0r0 h_x0r0r1 h_x0r0r2 ls (lv_sub hl [1, 2, 3, 4, 6, 7, 8, 9, 10] rfl)
                  · have h := it_pos h c703
                    refine lv_iload hx hb dX0_areOrdered_183 (lv_at hl 10 rfl) ?_
                    obtain ⟨K704, eK704, h⟩ := lt_step h
                    have HK704 : ∀  (h : K704 () = some z678) (H : Heap) (locs : List Loc) (hS : St D s H locs) (hF : Off (fun a => a = x0r0 ∨ a = x0r0r1) s.heap H) (h_x0 : OA D 1 x0 [.ref x0r0] H) (h_x0r0 : ON D 0 x0r0 [.ref x0r0r0, .ref x0r0r1, .ref x0r0r2, .int x0r0f3, .int w15.2, .int x0r0f5, .int x0r0f6] H) (h_x0r0r0 : aD D x0r0r0 8 x0r0r0c H) (h_x0r0r1 : aD D x0r0r1 8 w15.1 H) (h_x0r0r2 : aZ D x0r0r2 8 x0r0r2c H) (ls : Array Slot) (hl : lv_has ls 15 [(0, .ref x0), (1, .int x1), (2, .long v361), (4, .long 0), (7, .int v27), (8, .int v363), (9, .int v364), (10, .int v365), (11, .int o682), (14, .int (bI v687))]), W p l e R_X0_areOrdered s m A below meth c H locs (cl + 158) (sl + 1236) Q (F0 m 230 ls []) := by
                      intro h H locs hS hF h_x0 h_x0r0 h_x0r0r0 h_x0r0r1 h_x0r0r2 ls hl
                      subst eK704
                      refine lv_aload_n hx hb dX0_areOrdered_230 rfl (lv_at hl 0 rfl) ?_
                      refine r_get hx hb hts hown hS h_x0 rfl in_X0 0 (by decide) q936 rfl (v := .ref x0r0) rfl dX0_areOrdered_231 ?_
                      refine lv_iload hx hb dX0_areOrdered_234 (lv_at hl 4 rfl) ?_
                      refine lv_iload hx hb dX0_areOrdered_236 (lv_at hl 7 rfl) ?_
                      refine lv_iload hx hb dX0_areOrdered_238 (lv_at hl 7 rfl) ?_
                      refine lv_iconst (v := 3) hx hb dX0_areOrdered_240 (by decide) ?_
                      obtain ⟨v705, ev705, h⟩ := lti_step h
                      refine r_irem hx hb ev705 (by decide) dX0_areOrdered_241 ?_
                      obtain ⟨o706, eo706, h⟩ := bind_step h
                      refine r_cz (r_runV (rest := []) (As := [.int v27, .int v365, .int v705]) hC 3 (m_X1_heightSame x0r0 x0r0r0 x0r0r1 x0r0r2  x0r0r0c w15.1 x0r0r2c x0r0f3 w15.2 x0r0f5 x0r0f6 v27 v365 v705 o706 eo706) q1562 q1563 q1564 q46 q1565 (OA.recv hS h_x0r0.OA (C := RX1) rfl) hd_X1_heightSame rfl ⟨Nat.le_of_ble_eq_true rfl, Nat.le_of_ble_eq_true rfl⟩ hS ⟨h_x0r0, h_x0r0r0, h_x0r0r1, h_x0r0r2⟩ hl.1 rfl (Nat.le_of_ble_eq_true rfl) dX0_areOrdered_242 ⟨by have := hcE; have := hsE; omega, by have := hcE; have := hsE; omega⟩) hS (fun b H locs hp hS hz => ?_)
                      obtain ⟨eb_, hO⟩ := hp
                      rw [eb_]
                      have h_x0 := h_x0.ext hO
                      have h_x0r0 := h_x0r0.ext hO
                      have h_x0r0r0 := h_x0r0r0.ext hO
                      have h_x0r0r1 := h_x0r0r1.ext hO
                      have h_x0r0r2 := h_x0r0r2.ext hO
                      have hF := hF.trans (hO.mono (fun _ _ z => z.elim))
                      refine lv_iload hx hb dX0_areOrdered_245 (lv_at hl 8 rfl) ?_
                      obtain ⟨K708, eK708, h⟩ := lt_step h
                      have HK708 : ∀ (v707 : Bool) (h : K708 v707 = some z678) (H : Heap) (locs : List Loc) (hS : St D s H locs) (hF : Off (fun a => a = x0r0 ∨ a = x0r0r1) s.heap H) (h_x0 : OA D 1 x0 [.ref x0r0] H) (h_x0r0 : ON D 0 x0r0 [.ref x0r0r0, .ref x0r0r1, .ref x0r0r2, .int x0r0f3, .int w15.2, .int x0r0f5, .int x0r0f6] H) (h_x0r0r0 : aD D x0r0r0 8 x0r0r0c H) (h_x0r0r1 : aD D x0r0r1 8 w15.1 H) (h_x0r0r2 : aZ D x0r0r2 8 x0r0r2c H) (ls : Array Slot) (hl : lv_has ls 15 [(0, .ref x0), (1, .int x1), (2, .long v361), (4, .long 0), (7, .int v27), (8, .int v363), (9, .int v364), (10, .int v365), (11, .int o682), (14, .int (bI v687))]), W p l e R_X0_areOrdered s m A below meth c H locs (cl + 160) (sl + 1238) Q (F0 m 255 ls [.int (bI v707), .int (bI o706)]) := by
                        intro v707 h H locs hS hF h_x0 h_x0r0 h_x0r0r0 h_x0r0r1 h_x0r0r2 ls hl
                        subst eK708
                        refine lv_icmp_ne (tgt := 402) hx hb dX0_areOrdered_255 (by decide) (fun c709 => ?_) (fun c709 => ?_)
                        · have h := it_neg h c709
                          refine W.widen (k := cl + 782) (n := sl + 6172) (by omega) (by omega) ?_
                          exact HK699  h H locs hS hF h_x0 h_x0r0 h_x0r0r0 h_x0r0r1 h_x0r0r2 ls (lv_sub hl [0, 1, 2, 3, 4, 5, 6, 7, 8] rfl)
                        · have h := it_pos h c709
                          refine lv_aload_n hx hb dX0_areOrdered_258 rfl (lv_at hl 0 rfl) ?_
                          refine r_get hx hb hts hown hS h_x0 rfl in_X0 0 (by decide) q936 rfl (v := .ref x0r0) rfl dX0_areOrdered_259 ?_
                          refine lv_iload hx hb dX0_areOrdered_262 (lv_at hl 4 rfl) ?_
                          refine lv_iload hx hb dX0_areOrdered_264 (lv_at hl 7 rfl) ?_
                          refine lv_iconst (v := 0) hx hb dX0_areOrdered_266 (by decide) ?_
                          obtain ⟨o710, eo710, h⟩ := bind_step h
                          refine r_cp (r_runV (rest := []) (As := [.int v27, .int v365, .int 0]) hC 3 (m_X1_heightBelow x0r0 x0r0r0 x0r0r1 x0r0r2  x0r0r0c w15.1 x0r0r2c x0r0f3 w15.2 x0r0f5 x0r0f6 v27 v365 false o710 eo710) q1728 q1729 q1730 q46 q1731 (OA.recv hS h_x0r0.OA (C := RX1) rfl) hd_X1_heightBelow rfl ⟨Nat.le_of_ble_eq_true rfl, Nat.le_of_ble_eq_true rfl⟩ hS ⟨h_x0r0, h_x0r0r0, h_x0r0r1, h_x0r0r2⟩ hl.1 rfl (Nat.le_of_ble_eq_true rfl) dX0_areOrdered_267 ⟨by have := hcE; have := hsE; omega, by have := hcE; have := hsE; omega⟩) ?_
                          refine lv_iload hx hb dX0_areOrdered_270 (lv_at hl 8 rfl) ?_
                          obtain ⟨K712, eK712, h⟩ := lt_step h
                          have HK712 : ∀ (v711 : Bool) (h : K712 v711 = some z678) (H : Heap) (locs : List Loc) (hS : St D s H locs) (hF : Off (fun a => a = x0r0 ∨ a = x0r0r1) s.heap H) (h_x0 : OA D 1 x0 [.ref x0r0] H) (h_x0r0 : ON D 0 x0r0 [.ref x0r0r0, .ref x0r0r1, .ref x0r0r2, .int x0r0f3, .int w15.2, .int x0r0f5, .int x0r0f6] H) (h_x0r0r0 : aD D x0r0r0 8 x0r0r0c H) (h_x0r0r1 : aD D x0r0r1 8 w15.1 H) (h_x0r0r2 : aZ D x0r0r2 8 x0r0r2c H) (ls : Array Slot) (hl : lv_has ls 15 [(0, .ref x0), (1, .int x1), (2, .long v361), (4, .long 0), (7, .int v27), (8, .int v363), (9, .int v364), (10, .int v365), (11, .int o682), (14, .int (bI v687))]), W p l e R_X0_areOrdered s m A below meth c H locs (cl + 160) (sl + 1238) Q (F0 m 285 ls [.int (bI v711), .int (bI o710)]) := by
                            intro v711 h H locs hS hF h_x0 h_x0r0 h_x0r0r0 h_x0r0r1 h_x0r0r2 ls hl
                            subst eK712
                            refine lv_icmp_ne (tgt := 402) hx hb dX0_areOrdered_285 (by decide) (fun c713 => ?_) (fun c713 => ?_)
                            · have h := it_neg h c713
                              refine W.widen (k := cl + 782) (n := sl + 6172) (by omega) (by omega) ?_
                              exact HK699  h H locs hS hF h_x0 h_x0r0 h_x0r0r0 h_x0r0r1 h_x0r0r2 ls (lv_sub hl [0, 1, 2, 3, 4, 5, 6, 7, 8] rfl)
                            · have h := it_pos h c713
                              refine lv_aload_n hx hb dX0_areOrdered_288 rfl (lv_at hl 0 rfl) ?_
                              refine r_get hx hb hts hown hS h_x0 rfl in_X0 0 (by decide) q936 rfl (v := .ref x0r0) rfl dX0_areOrdered_289 ?_
                              refine lv_iload hx hb dX0_areOrdered_292 (lv_at hl 4 rfl) ?_
                              refine lv_iload hx hb dX0_areOrdered_294 (lv_at hl 7 rfl) ?_
                              refine lv_iconst (v := 1) hx hb dX0_areOrdered_296 (by decide) ?_
                              obtain ⟨o714, eo714, h⟩ := bind_step h
                              refine r_cp (r_runV (rest := []) (As := [.int v27, .int v365, .int 1]) hC 3 (m_X1_heightBelow x0r0 x0r0r0 x0r0r1 x0r0r2  x0r0r0c w15.1 x0r0r2c x0r0f3 w15.2 x0r0f5 x0r0f6 v27 v365 true o714 eo714) q1728 q1729 q1730 q46 q1731 (OA.recv hS h_x0r0.OA (C := RX1) rfl) hd_X1_heightBelow rfl ⟨Nat.le_of_ble_eq_true rfl, Nat.le_of_ble_eq_true rfl⟩ hS ⟨h_x0r0, h_x0r0r0, h_x0r0r1, h_x0r0r2⟩ hl.1 rfl (Nat.le_of_ble_eq_true rfl) dX0_areOrdered_297 ⟨by have := hcE; have := hsE; omega, by have := hcE; have := hsE; omega⟩) ?_
                              refine lv_iload hx hb dX0_areOrdered_300 (lv_at hl 8 rfl) ?_
                              obtain ⟨K716, eK716, h⟩ := lt_step h
                              have HK716 : ∀ (v715 : Bool) (h : K716 v715 = some z678) (H : Heap) (locs : List Loc) (hS : St D s H locs) (hF : Off (fun a => a = x0r0 ∨ a = x0r0r1) s.heap H) (h_x0 : OA D 1 x0 [.ref x0r0] H) (h_x0r0 : ON D 0 x0r0 [.ref x0r0r0, .ref x0r0r1, .ref x0r0r2, .int x0r0f3, .int w15.2, .int x0r0f5, .int x0r0f6] H) (h_x0r0r0 : aD D x0r0r0 8 x0r0r0c H) (h_x0r0r1 : aD D x0r0r1 8 w15.1 H) (h_x0r0r2 : aZ D x0r0r2 8 x0r0r2c H) (ls : Array Slot) (hl : lv_has ls 15 [(0, .ref x0), (1, .int x1), (2, .long v361), (4, .long 0), (7, .int v27), (8, .int v363), (9, .int v364), (10, .int v365), (11, .int o682)]), W p l e R_X0_areOrdered s m A below meth c H locs (cl + 160) (sl + 1238) Q (F0 m 315 ls [.int (bI v715), .int (bI o714)]) := by
                                intro v715 h H locs hS hF h_x0 h_x0r0 h_x0r0r0 h_x0r0r1 h_x0r0r2 ls hl
                                subst eK716
                                refine lv_icmp_ne (tgt := 402) hx hb dX0_areOrdered_315 (by decide) (fun c717 => ?_) (fun c717 => ?_)
                                · have h := it_neg h c717
                                  refine W.widen (k := cl + 782) (n := sl + 6172) (by omega) (by omega) ?_
                                  exact HK699  h H locs hS hF h_x0 h_x0r0 h_x0r0r0 h_x0r0r1 h_x0r0r2 ls (lv_sub hl [0, 1, 2, 3, 4, 5, 6, 7, 8] rfl)
                                · have h := it_pos h c717
                                  refine lv_aload_n hx hb dX0_areOrdered_318 rfl (lv_at hl 0 rfl) ?_
                                  refine r_get hx hb hts hown hS h_x0 rfl in_X0 0 (by decide) q936 rfl (v := .ref x0r0) rfl dX0_areOrdered_319 ?_
                                  refine lv_iload hx hb dX0_areOrdered_322 (lv_at hl 4 rfl) ?_
                                  refine lv_iload hx hb dX0_areOrdered_324 (lv_at hl 7 rfl) ?_
                                  obtain ⟨o718, eo718, h⟩ := bind_step h
                                  refine r_ci (r_runV (rest := []) (As := [.int v27, .int v365]) hC 2 (m_X1_sizeOrder x0r0 x0r0r0 x0r0r1 x0r0r2  x0r0r0c w15.1 x0r0r2c x0r0f3 w15.2 x0r0f5 x0r0f6 v27 v365 o718 eo718) q1567 q1320 q1321 q46 q1322 (OA.recv hS h_x0r0.OA (C := RX1) rfl) hd_X1_sizeOrder rfl ⟨Nat.le_of_ble_eq_true rfl, Nat.le_of_ble_eq_true rfl⟩ hS ⟨h_x0r0, h_x0r0r0, h_x0r0r1, h_x0r0r2⟩ hl.1 rfl (Nat.le_of_ble_eq_true rfl) dX0_areOrdered_326 ⟨by have := hcE; have := hsE; omega, by have := hcE; have := hsE; omega⟩) hS (fun b H locs hp hS hz => ?_)
                                  obtain ⟨eb_, hO⟩ := hp
                                  rw [eb_]
                                  have h_x0 := h_x0.ext hO
                                  have h_x0r0 := h_x0r0.ext hO
                                  have h_x0r0r0 := h_x0r0r0.ext hO
                                  have h_x0r0r1 := h_x0r0r1.ext hO
                                  have h_x0r0r2 := h_x0r0r2.ext hO
                                  have hF := hF.trans (hO.mono (fun _ _ z => z.elim))
                                  refine lv_aload_n hx hb dX0_areOrdered_329 rfl (lv_at hl 0 rfl) ?_
                                  refine r_get hx hb hts hown hS h_x0 rfl in_X0 0 (by decide) q936 rfl (v := .ref x0r0) rfl dX0_areOrdered_330 ?_
                                  refine lv_iload hx hb dX0_areOrdered_333 (lv_at hl 7 rfl) ?_
                                  refine lv_iload hx hb dX0_areOrdered_335 (lv_at hl 4 rfl) ?_
                                  obtain ⟨o719, eo719, h⟩ := bind_step h
                                  refine r_ci (r_runV (rest := [.int o718]) (As := [.int v365, .int v27]) hC 2 (m_X1_sizeOrder x0r0 x0r0r0 x0r0r1 x0r0r2  x0r0r0c w15.1 x0r0r2c x0r0f3 w15.2 x0r0f5 x0r0f6 v365 v27 o719 eo719) q1567 q1320 q1321 q46 q1322 (OA.recv hS h_x0r0.OA (C := RX1) rfl) hd_X1_sizeOrder rfl ⟨Nat.le_of_ble_eq_true rfl, Nat.le_of_ble_eq_true rfl⟩ hS ⟨h_x0r0, h_x0r0r0, h_x0r0r1, h_x0r0r2⟩ hl.1 rfl (Nat.le_of_ble_eq_true rfl) dX0_areOrdered_337 ⟨by have := hcE; have := hsE; omega, by have := hcE; have := hsE; omega⟩) hS (fun b H locs hp hS hz => ?_)
                                  obtain ⟨eb_, hO⟩ := hp
                                  rw [eb_]
                                  have h_x0 := h_x0.ext hO
                                  have h_x0r0 := h_x0r0.ext hO
                                  have h_x0r0r0 := h_x0r0r0.ext hO
                                  have h_x0r0r1 := h_x0r0r1.ext hO
                                  have h_x0r0r2 := h_x0r0r2.ext hO
                                  have hF := hF.trans (hO.mono (fun _ _ z => z.elim))
                                  obtain ⟨v720, ev720, h⟩ := lti_step h
                                  refine r_ineg hx hb ev720 dX0_areOrdered_340 ?_
                                  refine lv_icmp_ne (tgt := 402) hx hb dX0_areOrdered_341 (by decide) (fun c721 => ?_) (fun c721 => ?_)
                                  · have h := it_neg h c721
                                    refine W.widen (k := cl + 782) (n := sl + 6172) (by omega) (by omega) ?_
                                    exact HK699  h H locs hS hF h_x0 h_x0r0 h_x0r0r0 h_x0r0r1 h_x0r0r2 ls (lv_sub hl [0, 1, 2, 3, 4, 5, 6, 7, 8] rfl)
                                  · have h := it_pos h c721
                                    refine lv_aload_n hx hb dX0_areOrdered_344 rfl (lv_at hl 0 rfl) ?_
                                    refine lv_iload hx hb dX0_areOrdered_345 (lv_at hl 4 rfl) ?_
                                    obtain ⟨o722, eo722, h⟩ := bind_step h
                                    refine r_cl (r_runV (rest := []) (As := [.int v27]) hC 1 (m_X0_plain x0 x0r0 x0r0r0 x0r0r1 x0r0r2  x0r0r0c w15.1 x0r0r2c x0r0f3 w15.2 x0r0f5 x0r0f6 v27 o722 eo722) q1732 q1734 qs36 q39 q1735 (OA.recv hS h_x0 (C := RX0) rfl) hd_X0_plain rfl ⟨Nat.le_of_ble_eq_true rfl, Nat.le_of_ble_eq_true rfl⟩ hS ⟨h_x0, h_x0r0, h_x0r0r0, h_x0r0r1, h_x0r0r2⟩ hl.1 rfl (Nat.le_of_ble_eq_true rfl) dX0_areOrdered_347 ⟨by have := hcE; have := hsE; omega, by have := hcE; have := hsE; omega⟩) hS (fun b H locs hp hS hz => ?_)
                                    obtain ⟨eb_, hO⟩ := hp
                                    rw [eb_]
                                    have h_x0 := h_x0.ext hO
                                    have h_x0r0 := h_x0r0.ext hO
                                    have h_x0r0r0 := h_x0r0r0.ext hO
                                    have h_x0r0r1 := h_x0r0r1.ext hO
                                    have h_x0r0r2 := h_x0r0r2.ext hO
                                    have hF := hF.trans (hO.mono (fun _ _ z => z.elim))
                                    refine lv_aload_n hx hb dX0_areOrdered_350 rfl (lv_at hl 0 rfl) ?_
                                    refine lv_iload hx hb dX0_areOrdered_351 (lv_at hl 7 rfl) ?_
                                    obtain ⟨o723, eo723, h⟩ := bind_step h
                                    refine r_cl (r_runV (rest := [.long o722]) (As := [.int v365]) hC 1 (m_X0_plain x0 x0r0 x0r0r0 x0r0r1 x0r0r2  x0r0r0c w15.1 x0r0r2c x0r0f3 w15.2 x0r0f5 x0r0f6 v365 o723 eo723) q1732 q1734 qs36 q39 q1735 (OA.recv hS h_x0 (C := RX0) rfl) hd_X0_plain rfl ⟨Nat.le_of_ble_eq_true rfl, Nat.le_of_ble_eq_true rfl⟩ hS ⟨h_x0, h_x0r0, h_x0r0r0, h_x0r0r1, h_x0r0r2⟩ hl.1 rfl (Nat.le_of_ble_eq_true rfl) dX0_areOrdered_353 ⟨by have := hcE; have := hsE; omega, by have := hcE; have := hsE; omega⟩) hS (fun b H locs hp hS hz => ?_)
                                    obtain ⟨eb_, hO⟩ := hp
                                    rw [eb_]
                                    have h_x0 := h_x0.ext hO
                                    have h_x0r0 := h_x0r0.ext hO
                                    have h_x0r0r0 := h_x0r0r0.ext hO
                                    have h_x0r0r1 := h_x0r0r1.ext hO
                                    have h_x0r0r2 := h_x0r0r2.ext hO
                                    have hF := hF.trans (hO.mono (fun _ _ z => z.elim))
                                    refine lv_lconst (v := 1) hx hb dX0_areOrdered_356 rfl ?_
                                    obtain ⟨o724, eo724, h⟩ := bind_step h
                                    refine r_cp (r_runS (rest := []) (As := [.long o722, .long o723, .long 1]) hC 3 (m_X0_isNear   o722 o723 1 o724 eo724) q1545 q1546 q39 q1547 hd_X0_isNear rfl ⟨Nat.le_of_ble_eq_true rfl, Nat.le_of_ble_eq_true rfl⟩ hS trivial hl.1 rfl (Nat.le_of_ble_eq_true rfl) dX0_areOrdered_357 ⟨by have := hcE; have := hsE; omega, by have := hcE; have := hsE; omega⟩) ?_
                                    obtain ⟨K725, eK725, h⟩ := lt_step h
                                    have HK725 : ∀  (h : K725 () = some z678) (H : Heap) (locs : List Loc) (hS : St D s H locs) (hF : Off (fun a => a = x0r0 ∨ a = x0r0r1) s.heap H) (h_x0 : OA D 1 x0 [.ref x0r0] H) (h_x0r0 : ON D 0 x0r0 [.ref x0r0r0, .ref x0r0r1, .ref x0r0r2, .int x0r0f3, .int w15.2, .int x0r0f5, .int x0r0f6] H) (h_x0r0r0 : aD D x0r0r0 8 x0r0r0c H) (h_x0r0r1 : aD D x0r0r1 8 w15.1 H) (h_x0r0r2 : aZ D x0r0r2 8 x0r0r2c H) (ls : Array Slot) (hl : lv_has ls 15 [(0, .ref x0), (1, .int x1), (2, .long v361), (4, .long 0), (7, .int v27), (8, .int v363), (9, .int v364), (10, .int v365), (11, .int o682)]), W p l e R_X0_areOrdered s m A below meth c H locs (cl + 782) (sl + 6172) Q (F0 m 398 ls []) := by
                                      intro h H locs hS hF h_x0 h_x0r0 h_x0r0r0 h_x0r0r1 h_x0r0r2 ls hl
                                      subst eK725
                                      refine lv_iconst (v := 1) hx hb dX0_areOrdered_398 (by decide) ?_
                                      refine lv_goto (tgt := 403) hx hb dX0_areOrdered_399 (by decide) ?_
                                      exact HK690 true h H locs hS hF h_x0 h_x0r0 h_x0r0r0 h_x0r0r1 h_x0r0r2 ls (lv_sub hl [0, 1, 2, 3, 4, 5, 6, 7, 8] rfl)
                                    clear eK725
                                    refine r_ifz_ne (tgt := 398) hx hb dX0_areOrdered_360 (by decide) (fun c726 => ?_) (fun c726 => ?_)
                                    · have h := it_pos h (by rw [c726])
                                      refine W.widen (k := cl + 782) (n := sl + 6172) (by omega) (by omega) ?_
                                      exact HK725  h H locs hS hF h_x0 h_x0r0 h_x0r0r0 h_x0r0r1 h_x0r0r2 ls (lv_sub hl [0, 1, 2, 3, 4, 5, 6, 7, 8] rfl)
                                    · have h := it_neg h (by rw [c726]; decide)
                                      refine lv_aload_n hx hb dX0_areOrdered_363 rfl (lv_at hl 0 rfl) ?_
                                      refine r_get hx hb hts hown hS h_x0 rfl in_X0 0 (by decide) q936 rfl (v := .ref x0r0) rfl dX0_areOrdered_364 ?_
                                      refine lv_iload hx hb dX0_areOrdered_367 (lv_at hl 4 rfl) ?_
                                      refine lv_iload hx hb dX0_areOrdered_369 (lv_at hl 7 rfl) ?_
                                      obtain ⟨o727, eo727, h⟩ := bind_step h
                                      refine r_ci (r_runV (rest := []) (As := [.int v27, .int v365]) hC 2 (m_X1_sizeOrder x0r0 x0r0r0 x0r0r1 x0r0r2  x0r0r0c w15.1 x0r0r2c x0r0f3 w15.2 x0r0f5 x0r0f6 v27 v365 o727 eo727) q1567 q1320 q1321 q46 q1322 (OA.recv hS h_x0r0.OA (C := RX1) rfl) hd_X1_sizeOrder rfl ⟨Nat.le_of_ble_eq_true rfl, Nat.le_of_ble_eq_true rfl⟩ hS ⟨h_x0r0, h_x0r0r0, h_x0r0r1, h_x0r0r2⟩ hl.1 rfl (Nat.le_of_ble_eq_true rfl) dX0_areOrdered_371 ⟨by have := hcE; have := hsE; omega, by have := hcE; have := hsE; omega⟩) hS (fun b H locs hp hS hz => ?_)
                                      obtain ⟨eb_, hO⟩ := hp
                                      rw [eb_]
                                      have h_x0 := h_x0.ext hO
                                      have h_x0r0 := h_x0r0.ext hO
                                      have h_x0r0r0 := h_x0r0r0.ext hO
                                      have h_x0r0r1 := h_x0r0r1.ext hO
                                      have h_x0r0r2 := h_x0r0r2.ext hO
                                      have hF := hF.trans (hO.mono (fun _ _ z => z.elim))
                                      refine lv_aload_n hx hb dX0_areOrdered_374 rfl (lv_at hl 0 rfl) ?_
                                      refine lv_iload hx hb dX0_areOrdered_375 (lv_at hl 4 rfl) ?_
                                      obtain ⟨o728, eo728, h⟩ := bind_step h
                                      refine r_cl (r_runV (rest := [.int o727]) (As := [.int v27]) hC 1 (m_X0_plain x0 x0r0 x0r0r0 x0r0r1 x0r0r2  x0r0r0c w15.1 x0r0r2c x0r0f3 w15.2 x0r0f5 x0r0f6 v27 o728 eo728) q1732 q1734 qs36 q39 q1735 (OA.recv hS h_x0 (C := RX0) rfl) hd_X0_plain rfl ⟨Nat.le_of_ble_eq_true rfl, Nat.le_of_ble_eq_true rfl⟩ hS ⟨h_x0, h_x0r0, h_x0r0r0, h_x0r0r1, h_x0r0r2⟩ hl.1 rfl (Nat.le_of_ble_eq_true rfl) dX0_areOrdered_377 ⟨by have := hcE; have := hsE; omega, by have := hcE; have := hsE; omega⟩) hS (fun b H locs hp hS hz => ?_)
                                      obtain ⟨eb_, hO⟩ := hp
                                      rw [eb_]
                                      have h_x0 := h_x0.ext hO
                                      have h_x0r0 := h_x0r0.ext hO
                                      have h_x0r0r0 := h_x0r0r0.ext hO
                                      have h_x0r0r1 := h_x0r0r1.ext hO
                                      have h_x0r0r2 := h_x0r0r2.ext hO
                                      have hF := hF.trans (hO.mono (fun _ _ z => z.elim))
                                      refine lv_aload_n hx hb dX0_areOrdered_380 rfl (lv_at hl 0 rfl) ?_
                                      refine lv_iload hx hb dX0_areOrdered_381 (lv_at hl 7 rfl) ?_
                                      obtain ⟨o729, eo729, h⟩ := bind_step h
                                      refine r_cl (r_runV (rest := [.long o728, .int o727]) (As := [.int v365]) hC 1 (m_X0_plain x0 x0r0 x0r0r0 x0r0r1 x0r0r2  x0r0r0c w15.1 x0r0r2c x0r0f3 w15.2 x0r0f5 x0r0f6 v365 o729 eo729) q1732 q1734 qs36 q39 q1735 (OA.recv hS h_x0 (C := RX0) rfl) hd_X0_plain rfl ⟨Nat.le_of_ble_eq_true rfl, Nat.le_of_ble_eq_true rfl⟩ hS ⟨h_x0, h_x0r0, h_x0r0r0, h_x0r0r1, h_x0r0r2⟩ hl.1 rfl (Nat.le_of_ble_eq_true rfl) dX0_areOrdered_383 ⟨by have := hcE; have := hsE; omega, by have := hcE; have := hsE; omega⟩) hS (fun b H locs hp hS hz => ?_)
                                      obtain ⟨eb_, hO⟩ := hp
                                      rw [eb_]
                                      have h_x0 := h_x0.ext hO
                                      have h_x0r0 := h_x0r0.ext hO
                                      have h_x0r0r0 := h_x0r0r0.ext hO
                                      have h_x0r0r1 := h_x0r0r1.ext hO
                                      have h_x0r0r2 := h_x0r0r2.ext hO
                                      have hF := hF.trans (hO.mono (fun _ _ z => z.elim))
                                      obtain ⟨v730, ev730, h⟩ := lti_step h
                                      refine r_lcmp hx hb ev730 dX0_areOrdered_386 ?_
                                      obtain ⟨K732, eK732, h⟩ := lt_step h
                                      have HK732 : ∀ (v731 : Int32) (h : K732 v731 = some z678) (H : Heap) (locs : List Loc) (hS : St D s H locs) (hF : Off (fun a => a = x0r0 ∨ a = x0r0r1) s.heap H) (h_x0 : OA D 1 x0 [.ref x0r0] H) (h_x0r0 : ON D 0 x0r0 [.ref x0r0r0, .ref x0r0r1, .ref x0r0r2, .int x0r0f3, .int w15.2, .int x0r0f5, .int x0r0f6] H) (h_x0r0r0 : aD D x0r0r0 8 x0r0r0c H) (h_x0r0r1 : aD D x0r0r1 8 w15.1 H) (h_x0r0r2 : aZ D x0r0r2 8 x0r0r2c H) (ls : Array Slot) (hl : lv_has ls 15 [(0, .ref x0), (1, .int x1), (2, .long v361), (4, .long 0), (7, .int v27), (8, .int v363), (9, .int v364), (10, .int v365), (11, .int o682)]), W p l e R_X0_areOrdered s m A below meth c H locs (cl + 782) (sl + 6172) Q (F0 m 395 ls [.int v731, .int o727]) := by
                                        intro v731 h H locs hS hF h_x0 h_x0r0 h_x0r0r0 h_x0r0r1 h_x0r0r2 ls hl
                                        subst eK732
                                        refine lv_icmp_ne (tgt := 402) hx hb dX0_areOrdered_395 (by decide) (fun c733 => ?_) (fun c733 => ?_)
                                        · have h := it_neg h c733
                                          exact HK699  h H locs hS hF h_x0 h_x0r0 h_x0r0r0 h_x0r0r1 h_x0r0r2 ls (lv_sub hl [0, 1, 2, 3, 4, 5, 6, 7, 8] rfl)
                                        · have h := it_pos h c733
                                          exact HK725  h H locs hS hF h_x0 h_x0r0 h_x0r0r0 h_x0r0r1 h_x0r0r2 ls (lv_sub hl [0, 1, 2, 3, 4, 5, 6, 7, 8] rfl)
                                      clear eK732
                                      refine lv_if_ge (tgt := 394) hx hb dX0_areOrdered_387 (by decide) (fun c734 => ?_) (fun c734 => ?_)
                                      · have h := it_pos h c734
                                        refine lv_iconst (v := 1) hx hb dX0_areOrdered_394 (by decide) ?_
                                        exact HK732 1 h H locs hS hF h_x0 h_x0r0 h_x0r0r0 h_x0r0r1 h_x0r0r2 ls (lv_sub hl [0, 1, 2, 3, 4, 5, 6, 7, 8] rfl)
                                      · have h := it_neg h c734
                                        refine lv_iconst (v := (-1)) hx hb dX0_areOrdered_390 (by decide) ?_
                                        refine lv_goto (tgt := 395) hx hb dX0_areOrdered_391 (by decide) ?_
                                        exact HK732 (-1) h H locs hS hF h_x0 h_x0r0 h_x0r0r0 h_x0r0r1 h_x0r0r2 ls (lv_sub hl [0, 1, 2, 3, 4, 5, 6, 7, 8] rfl)
                              clear eK716
                              obtain ⟨K735, eK735, h⟩ := lt_step h
                              have HK735 : ∀  (h : K735 () = some z678) (H : Heap) (locs : List Loc) (hS : St D s H locs) (hF : Off (fun a => a = x0r0 ∨ a = x0r0r1) s.heap H) (h_x0 : OA D 1 x0 [.ref x0r0] H) (h_x0r0 : ON D 0 x0r0 [.ref x0r0r0, .ref x0r0r1, .ref x0r0r2, .int x0r0f3, .int w15.2, .int x0r0f5, .int x0r0f6] H) (h_x0r0r0 : aD D x0r0r0 8 x0r0r0c H) (h_x0r0r1 : aD D x0r0r1 8 w15.1 H) (h_x0r0r2 : aZ D x0r0r2 8 x0r0r2c H) (ls : Array Slot) (hl : lv_has ls 15 [(0, .ref x0), (1, .int x1), (2, .long v361), (4, .long 0), (7, .int v27), (8, .int v363), (9, .int v364), (10, .int v365), (11, .int o682)]), W p l e R_X0_areOrdered s m A below meth c H locs (cl + 160) (sl + 1238) Q (F0 m 310 ls [.int (bI o714)]) := by
                                intro h H locs hS hF h_x0 h_x0r0 h_x0r0r0 h_x0r0r1 h_x0r0r2 ls hl
                                subst eK735
                                refine lv_iconst (v := 1) hx hb dX0_areOrdered_310 (by decide) ?_
                                refine lv_goto (tgt := 315) hx hb dX0_areOrdered_311 (by decide) ?_
                                exact HK716 true h H locs hS hF h_x0 h_x0r0 h_x0r0r0 h_x0r0r1 h_x0r0r2 ls (lv_sub hl [0, 1, 2, 3, 4, 5, 6, 7, 8] rfl)
                              clear eK735
                              refine lv_if_le (tgt := 310) hx hb dX0_areOrdered_302 (by decide) (fun c736 => ?_) (fun c736 => ?_)
                              · have h := it_pos h c736
                                exact HK735  h H locs hS hF h_x0 h_x0r0 h_x0r0r0 h_x0r0r1 h_x0r0r2 ls (lv_sub hl [0, 1, 2, 3, 4, 5, 6, 7, 8] rfl)
                              · have h := it_neg h c736
                                refine lv_iload hx hb dX0_areOrdered_305 (lv_at hl 9 rfl) ?_
                                refine r_ifz_eq (tgt := 314) hx hb dX0_areOrdered_307 (by decide) (fun c737 => ?_) (fun c737 => ?_)
                                · have h := it_neg h (by rw [c737]; decide)
                                  refine lv_iconst (v := 0) hx hb dX0_areOrdered_314 (by decide) ?_
                                  exact HK716 false h H locs hS hF h_x0 h_x0r0 h_x0r0r0 h_x0r0r1 h_x0r0r2 ls (lv_sub hl [0, 1, 2, 3, 4, 5, 6, 7, 8] rfl)
                                · have h := it_pos h (by rw [c737])
                                  exact HK735  h H locs hS hF h_x0 h_x0r0 h_x0r0r0 h_x0r0r1 h_x0r0r2 ls (lv_sub hl [0, 1, 2, 3, 4, 5, 6, 7, 8] rfl)
                          clear eK712
                          obtain ⟨K738, eK738, h⟩ := lt_step h
                          have HK738 : ∀  (h : K738 () = some z678) (H : Heap) (locs : List Loc) (hS : St D s H locs) (hF : Off (fun a => a = x0r0 ∨ a = x0r0r1) s.heap H) (h_x0 : OA D 1 x0 [.ref x0r0] H) (h_x0r0 : ON D 0 x0r0 [.ref x0r0r0, .ref x0r0r1, .ref x0r0r2, .int x0r0f3, .int w15.2, .int x0r0f5, .int x0r0f6] H) (h_x0r0r0 : aD D x0r0r0 8 x0r0r0c H) (h_x0r0r1 : aD D x0r0r1 8 w15.1 H) (h_x0r0r2 : aZ D x0r0r2 8 x0r0r2c H) (ls : Array Slot) (hl : lv_has ls 15 [(0, .ref x0), (1, .int x1), (2, .long v361), (4, .long 0), (7, .int v27), (8, .int v363), (9, .int v364), (10, .int v365), (11, .int o682), (14, .int (bI v687))]), W p l e R_X0_areOrdered s m A below meth c H locs (cl + 160) (sl + 1238) Q (F0 m 284 ls [.int (bI o710)]) := by
                            intro h H locs hS hF h_x0 h_x0r0 h_x0r0r0 h_x0r0r1 h_x0r0r2 ls hl
                            subst eK738
                            refine lv_iconst (v := 0) hx hb dX0_areOrdered_284 (by decide) ?_
                            exact HK712 false h H locs hS hF h_x0 h_x0r0 h_x0r0r0 h_x0r0r1 h_x0r0r2 ls (lv_sub hl [0, 1, 2, 3, 4, 5, 6, 7, 8, 9] rfl)
                          clear eK738
                          refine lv_if_ge (tgt := 284) hx hb dX0_areOrdered_272 (by decide) (fun c739 => ?_) (fun c739 => ?_)
                          · have h := it_pos h c739
                            exact HK738  h H locs hS hF h_x0 h_x0r0 h_x0r0r0 h_x0r0r1 h_x0r0r2 ls (lv_sub hl [0, 1, 2, 3, 4, 5, 6, 7, 8, 9] rfl)
                          · have h := it_neg h c739
                            refine lv_iload hx hb dX0_areOrdered_275 (lv_at hl 9 rfl) ?_
                            refine r_ifz_ne (tgt := 284) hx hb dX0_areOrdered_277 (by decide) (fun c740 => ?_) (fun c740 => ?_)
                            · have h := it_pos h (by rw [c740])
                              exact HK738  h H locs hS hF h_x0 h_x0r0 h_x0r0r0 h_x0r0r1 h_x0r0r2 ls (lv_sub hl [0, 1, 2, 3, 4, 5, 6, 7, 8, 9] rfl)
                            · have h := it_neg h (by rw [c740]; decide)
                              refine lv_iconst (v := 1) hx hb dX0_areOrdered_280 (by decide) ?_
                              refine lv_goto (tgt := 285) hx hb dX0_areOrdered_281 (by decide) ?_
                              exact HK712 true h H locs hS hF h_x0 h_x0r0 h_x0r0r0 h_x0r0r1 h_x0r0r2 ls (lv_sub hl [0, 1, 2, 3, 4, 5, 6, 7, 8, 9] rfl)
                      clear eK708
                      refine lv_if_ne (tgt := 254) hx hb dX0_areOrdered_247 (by decide) (fun c741 => ?_) (fun c741 => ?_)
                      · have h := it_neg h c741
                        refine lv_iconst (v := 0) hx hb dX0_areOrdered_254 (by decide) ?_
                        exact HK708 false h H locs hS hF h_x0 h_x0r0 h_x0r0r0 h_x0r0r1 h_x0r0r2 ls (lv_sub hl [0, 1, 2, 3, 4, 5, 6, 7, 8, 9] rfl)
                      · have h := it_pos h c741
                        refine lv_iconst (v := 1) hx hb dX0_areOrdered_250 (by decide) ?_
                        refine lv_goto (tgt := 255) hx hb dX0_areOrdered_251 (by decide) ?_
                        exact HK708 true h H locs hS hF h_x0 h_x0r0 h_x0r0r0 h_x0r0r1 h_x0r0r2 ls (lv_sub hl [0, 1, 2, 3, 4, 5, 6, 7, 8, 9] rfl)
                    clear eK704
                    refine lv_if_ne (tgt := 198) hx hb dX0_areOrdered_185 (by decide) (fun c742 => ?_) (fun c742 => ?_)
                    · have h := it_neg h c742
                      refine lv_lload hx hb dX0_areOrdered_198 (lv_at hl 11 rfl) ?_
                      refine lv_lconst (v := 0) hx hb dX0_areOrdered_200 rfl ?_
                      obtain ⟨v743, ev743, h⟩ := lti_step h
                      refine r_lcmp hx hb ev743 dX0_areOrdered_201 ?_
                      refine lv_if_eq (tgt := 230) hx hb dX0_areOrdered_202 (by decide) (fun c744 => ?_) (fun c744 => ?_)
                      · have h := it_pos h c744
                        exact HK704  h H locs hS hF h_x0 h_x0r0 h_x0r0r0 h_x0r0r1 h_x0r0r2 ls (lv_sub hl [1, 2, 3, 4, 6, 7, 8, 9, 10, 0] rfl)
                      · have h := it_neg h c744
                        refine lv_lload hx hb dX0_areOrdered_205 (lv_at hl 11 rfl) ?_
                        refine lv_lconst (v := 0) hx hb dX0_areOrdered_207 rfl ?_
                        obtain ⟨v745, ev745, h⟩ := lti_step h
                        refine r_lcmp hx hb ev745 dX0_areOrdered_208 ?_
                        obtain ⟨K747, eK747, h⟩ := lt_step h
                        have HK747 : ∀ (v746 : Bool) (h : K747 v746 = some z678) (H : Heap) (locs : List Loc) (hS : St D s H locs) (hF : Off (fun a => a = x0r0 ∨ a = x0r0r1) s.heap H) (h_x0 : OA D 1 x0 [.ref x0r0] H) (h_x0r0 : ON D 0 x0r0 [.ref x0r0r0, .ref x0r0r1, .ref x0r0r2, .int x0r0f3, .int w15.2, .int x0r0f5, .int x0r0f6] H) (h_x0r0r0 : aD D x0r0r0 8 x0r0r0c H) (h_x0r0r1 : aD D x0r0r1 8 w15.1 H) (h_x0r0r2 : aZ D x0r0r2 8 x0r0r2c H) (ls : Array Slot) (hl : lv_has ls 15 [(0, .ref x0), (1, .int x1), (2, .long v361), (4, .long 0), (7, .int v27), (8, .int v363), (9, .int v364), (10, .int v365), (11, .int o682), (14, .int (bI v687))]), W p l e R_X0_areOrdered s m A below meth c H locs (cl + 158) (sl + 1236) Q (F0 m 217 ls [.int (bI v746)]) := by
                          intro v746 h H locs hS hF h_x0 h_x0r0 h_x0r0r0 h_x0r0r1 h_x0r0r2 ls hl
                          subst eK747
                          refine lv_iload hx hb dX0_areOrdered_217 (lv_at hl 8 rfl) ?_
                          obtain ⟨K749, eK749, h⟩ := lt_step h
                          have HK749 : ∀ (v748 : Bool) (h : K749 v748 = some z678) (H : Heap) (locs : List Loc) (hS : St D s H locs) (hF : Off (fun a => a = x0r0 ∨ a = x0r0r1) s.heap H) (h_x0 : OA D 1 x0 [.ref x0r0] H) (h_x0r0 : ON D 0 x0r0 [.ref x0r0r0, .ref x0r0r1, .ref x0r0r2, .int x0r0f3, .int w15.2, .int x0r0f5, .int x0r0f6] H) (h_x0r0r0 : aD D x0r0r0 8 x0r0r0c H) (h_x0r0r1 : aD D x0r0r1 8 w15.1 H) (h_x0r0r2 : aZ D x0r0r2 8 x0r0r2c H) (ls : Array Slot) (hl : lv_has ls 15 [(0, .ref x0), (1, .int x1), (2, .long v361), (4, .long 0), (7, .int v27), (8, .int v363), (9, .int v364), (10, .int v365), (11, .int o682), (14, .int (bI v687))]), W p l e R_X0_areOrdered s m A below meth c H locs (cl + 158) (sl + 1236) Q (F0 m 227 ls [.int (bI v748), .int (bI v746)]) := by
                            intro v748 h H locs hS hF h_x0 h_x0r0 h_x0r0r0 h_x0r0r1 h_x0r0r2 ls hl
                            subst eK749
                            refine lv_icmp_ne (tgt := 402) hx hb dX0_areOrdered_227 (by decide) (fun c750 => ?_) (fun c750 => ?_)
                            · have h := it_neg h c750
                              refine W.widen (k := cl + 782) (n := sl + 6172) (by omega) (by omega) ?_
                              exact HK699  h H locs hS hF h_x0 h_x0r0 h_x0r0r0 h_x0r0r1 h_x0r0r2 ls (lv_sub hl [0, 1, 2, 3, 4, 5, 6, 7, 8] rfl)
                            · have h := it_pos h c750
                              exact HK704  h H locs hS hF h_x0 h_x0r0 h_x0r0r0 h_x0r0r1 h_x0r0r2 ls (lv_sub hl [0, 1, 2, 3, 4, 5, 6, 7, 8, 9] rfl)
                          clear eK749
                          refine lv_if_ge (tgt := 226) hx hb dX0_areOrdered_219 (by decide) (fun c751 => ?_) (fun c751 => ?_)
                          · have h := it_pos h c751
                            refine lv_iconst (v := 0) hx hb dX0_areOrdered_226 (by decide) ?_
                            exact HK749 false h H locs hS hF h_x0 h_x0r0 h_x0r0r0 h_x0r0r1 h_x0r0r2 ls (lv_sub hl [0, 1, 2, 3, 4, 5, 6, 7, 8, 9] rfl)
                          · have h := it_neg h c751
                            refine lv_iconst (v := 1) hx hb dX0_areOrdered_222 (by decide) ?_
                            refine lv_goto (tgt := 227) hx hb dX0_areOrdered_223 (by decide) ?_
                            exact HK749 true h H locs hS hF h_x0 h_x0r0 h_x0r0r0 h_x0r0r1 h_x0r0r2 ls (lv_sub hl [0, 1, 2, 3, 4, 5, 6, 7, 8, 9] rfl)
                        clear eK747
                        refine lv_if_ge (tgt := 216) hx hb dX0_areOrdered_209 (by decide) (fun c752 => ?_) (fun c752 => ?_)
                        · have h := it_pos h c752
                          refine lv_iconst (v := 0) hx hb dX0_areOrdered_216 (by decide) ?_
                          exact HK747 false h H locs hS hF h_x0 h_x0r0 h_x0r0r0 h_x0r0r1 h_x0r0r2 ls (lv_sub hl [1, 2, 3, 4, 6, 7, 8, 9, 10, 0] rfl)
                        · have h := it_neg h c752
                          refine lv_iconst (v := 1) hx hb dX0_areOrdered_212 (by decide) ?_
                          refine lv_goto (tgt := 217) hx hb dX0_areOrdered_213 (by decide) ?_
                          exact HK747 true h H locs hS hF h_x0 h_x0r0 h_x0r0r0 h_x0r0r1 h_x0r0r2 ls (lv_sub hl [1, 2, 3, 4, 6, 7, 8, 9, 10, 0] rfl)
                    · have h := it_pos h c742
                      refine lv_lload hx hb dX0_areOrdered_188 (lv_at hl 11 rfl) ?_
                      refine lv_lconst (v := 0) hx hb dX0_areOrdered_190 rfl ?_
                      obtain ⟨v753, ev753, h⟩ := lti_step h
                      refine r_lcmp hx hb ev753 dX0_areOrdered_191 ?_
                      refine lv_if_ne (tgt := 402) hx hb dX0_areOrdered_192 (by decide) (fun c754 => ?_) (fun c754 => ?_)
                      · have h := it_neg h c754
                        refine W.widen (k := cl + 782) (n := sl + 6172) (by omega) (by omega) ?_
                        exact HK699  h H locs hS hF h_x0 h_x0r0 h_x0r0r0 h_x0r0r1 h_x0r0r2 ls (lv_sub hl [1, 2, 3, 4, 6, 7, 8, 9, 10] rfl)
                      · have h := it_pos h c754
                        refine lv_goto (tgt := 230) hx hb dX0_areOrdered_195 (by decide) ?_
                        exact HK704  h H locs hS hF h_x0 h_x0r0 h_x0r0r0 h_x0r0r1 h_x0r0r2 ls (lv_sub hl [1, 2, 3, 4, 6, 7, 8, 9, 10, 0] rfl)
              clear eK688
              obtain ⟨K755, eK755, h⟩ := lt_step h
              have HK755 : ∀  (h : K755 () = some z678) (H : Heap) (locs : List Loc) (hS : St D s H locs) (hF : Off (fun a => a = x0r0 ∨ a = x0r0r1) s.heap H) (h_x0 : OA D 1 x0 [.ref x0r0] H) (h_x0r0 : ON D 0 x0r0 [.ref x0r0r0, .ref x0r0r1, .ref x0r0r2, .int x0r0f3, .int w15.2, .int x0r0f5, .int x0r0f6] H) (h_x0r0r0 : aD D x0r0r0 8 x0r0r0c H) (h_x0r0r1 : aD D x0r0r1 8 w15.1 H) (h_x0r0r2 : aZ D x0r0r2 8 x0r0r2c H) (ls : Array Slot) (hl : lv_has ls 15 [(0, .ref x0), (1, .int x1), (2, .long v361), (4, .long 0), (6, .int (bI v362)), (7, .int v27), (8, .int v363), (9, .int v364), (10, .int v365), (11, .int o682), (12, .long v685)]), W p l e R_X0_areOrdered s m A below meth c H locs (cl + 156) (sl + 1234) Q (F0 m 157 ls []) := by
                intro h H locs hS hF h_x0 h_x0r0 h_x0r0r0 h_x0r0r1 h_x0r0r2 ls hl
                subst eK755
                refine lv_iconst (v := 0) hx hb dX0_areOrdered_157 (by decide) ?_
                exact HK688 false h H locs hS hF h_x0 h_x0r0 h_x0r0r0 h_x0r0r1 h_x0r0r2 ls (lv_sub hl [0, 1, 2, 3, 4, 5, 6, 7, 8, 9, 10] rfl)
              clear eK755
              refine lv_if_ne (tgt := 157) hx hb dX0_areOrdered_120 (by decide) (fun c756 => ?_) (fun c756 => ?_)
              · have h := it_neg h c756
                exact HK755  h H locs hS hF h_x0 h_x0r0 h_x0r0r0 h_x0r0r1 h_x0r0r2 ls (lv_sub hl [2, 3, 4, 5, 6, 7, 8, 9, 10, 1, 0] rfl)
              · have h := it_pos h c756
                refine lv_aload_n hx hb dX0_areOrdered_123 rfl (lv_at hl 2 rfl) ?_
                refine r_get hx hb hts hown hS h_x0 rfl in_X0 0 (by decide) q936 rfl (v := .ref x0r0) rfl dX0_areOrdered_124 ?_
                refine lv_iload hx hb dX0_areOrdered_127 (lv_at hl 7 rfl) ?_
                obtain ⟨o757, eo757, h⟩ := bind_step h
                refine r_cp (r_runV (rest := []) (As := [.int v27]) hC 1 (m_X1_upper x0r0 x0r0r0 x0r0r1 x0r0r2  x0r0r0c w15.1 x0r0r2c x0r0f3 w15.2 x0r0f5 x0r0f6 v27 o757 eo757) q1240 q1241 q1242 q46 q1243 (OA.recv hS h_x0r0.OA (C := RX1) rfl) hd_X1_upper rfl ⟨Nat.le_of_ble_eq_true rfl, Nat.le_of_ble_eq_true rfl⟩ hS ⟨h_x0r0, h_x0r0r0, h_x0r0r1, h_x0r0r2⟩ hl.1 rfl (Nat.le_of_ble_eq_true rfl) dX0_areOrdered_129 ⟨by have := hcE; have := hsE; omega, by have := hcE; have := hsE; omega⟩) ?_
                refine lv_ldc hx hb (v := 2147483647) hown (hts _ q1247) dX0_areOrdered_132 ?_
                obtain ⟨v758, ev758, h⟩ := lti_step h
                refine r_iand hx hb ev758 dX0_areOrdered_134 ?_
                refine lv_if_ne (tgt := 157) hx hb dX0_areOrdered_135 (by decide) (fun c759 => ?_) (fun c759 => ?_)
                · have h := it_neg h c759
                  exact HK755  h H locs hS hF h_x0 h_x0r0 h_x0r0r0 h_x0r0r1 h_x0r0r2 ls (lv_sub hl [2, 3, 4, 5, 6, 7, 8, 9, 10, 1, 0] rfl)
                · have h := it_pos h c759
                  refine lv_aload_n hx hb dX0_areOrdered_138 rfl (lv_at hl 2 rfl) ?_
                  refine r_get hx hb hts hown hS h_x0 rfl in_X0 0 (by decide) q936 rfl (v := .ref x0r0) rfl dX0_areOrdered_139 ?_
                  refine lv_iload hx hb dX0_areOrdered_142 (lv_at hl 10 rfl) ?_
                  obtain ⟨o760, eo760, h⟩ := bind_step h
                  refine r_cp (r_runV (rest := []) (As := [.int v365]) hC 1 (m_X1_upper x0r0 x0r0r0 x0r0r1 x0r0r2  x0r0r0c w15.1 x0r0r2c x0r0f3 w15.2 x0r0f5 x0r0f6 v365 o760 eo760) q1240 q1241 q1242 q46 q1243 (OA.recv hS h_x0r0.OA (C := RX1) rfl) hd_X1_upper rfl ⟨Nat.le_of_ble_eq_true rfl, Nat.le_of_ble_eq_true rfl⟩ hS ⟨h_x0r0, h_x0r0r0, h_x0r0r1, h_x0r0r2⟩ hl.1 rfl (Nat.le_of_ble_eq_true rfl) dX0_areOrdered_144 ⟨by have := hcE; have := hsE; omega, by have := hcE; have := hsE; omega⟩) ?_
                  refine lv_ldc hx hb (v := 2147483647) hown (hts _ q1247) dX0_areOrdered_147 ?_
                  obtain ⟨v761, ev761, h⟩ := lti_step h
                  refine r_iand hx hb ev761 dX0_areOrdered_149 ?_
                  refine lv_if_ne (tgt := 157) hx hb dX0_areOrdered_150 (by decide) (fun c762 => ?_) (fun c762 => ?_)
                  · have h := it_neg h c762
                    exact HK755  h H locs hS hF h_x0 h_x0r0 h_x0r0r0 h_x0r0r1 h_x0r0r2 ls (lv_sub hl [2, 3, 4, 5, 6, 7, 8, 9, 10, 1, 0] rfl)
                  · have h := it_pos h c762
                    refine lv_iconst (v := 1) hx hb dX0_areOrdered_153 (by decide) ?_
                    refine lv_goto (tgt := 158) hx hb dX0_areOrdered_154 (by decide) ?_
                    exact HK688 true h H locs hS hF h_x0 h_x0r0 h_x0r0r0 h_x0r0r1 h_x0r0r2 ls (lv_sub hl [2, 3, 4, 5, 6, 7, 8, 9, 10, 1, 0] rfl)
        clear eF676
        refine HL 9 v26 8 (-1) 0 w677 ew677 _ _ (Nat.le_of_eq eCE.symm) (Nat.le_of_eq eSE.symm) H locs hS hF h_x0 h_x0r0 h_x0r0r0 h_x0r0r1 h_x0r0r2 ls (lv_sub hl [4, 5, 3, 6, 7, 8, 2, 1, 0] rfl) (fun  H locs hS hF h_x0 h_x0r0 h_x0r0r0 h_x0r0r1 h_x0r0r2 ls hl => ?_)
        rw [eCE, eSE]
        refine lv_iload hx hb dX0_areOrdered_436 (lv_at hl 4 rfl) ?_
        obtain ⟨K764, eK764, h⟩ := lt_step h
        have HK764 : ∀ (v763 : Bool) (h : K764 v763 = some z358) (H : Heap) (locs : List Loc) (hS : St D s H locs) (hF : Off (fun a => a = x0r0 ∨ a = x0r0r1) s.heap H) (h_x0 : OA D 1 x0 [.ref x0r0] H) (h_x0r0 : ON D 0 x0r0 [.ref x0r0r0, .ref x0r0r1, .ref x0r0r2, .int x0r0f3, .int w15.2, .int x0r0f5, .int x0r0f6] H) (h_x0r0r0 : aD D x0r0r0 8 x0r0r0c H) (h_x0r0r1 : aD D x0r0r1 8 w15.1 H) (h_x0r0r2 : aZ D x0r0r2 8 x0r0r2c H) (ls : Array Slot) (hl : lv_has ls 15 [(0, .ref x0), (1, .int x1), (2, .long v361), (4, .long 0), (7, .int v27)]), W p l e R_X0_areOrdered s m A below meth c H locs (cl + 7115) (sl + 56164) Q (F0 m 476 ls [.int (bI v763)]) := by
          intro v763 h H locs hS hF h_x0 h_x0r0 h_x0r0r0 h_x0r0r1 h_x0r0r2 ls hl
          subst eK764
          refine lv_istore (lv' := [(6, .int (bI v763)), (0, .ref x0), (1, .int x1), (2, .long v361), (4, .long 0), (7, .int v27)]) hx hb dX0_areOrdered_476 hl (by decide) rfl (fun ls hl => ?_)
          obtain ⟨v765, ev765, h⟩ := lti_step h
          refine lv_iinc (v := v765) (lv' := [(7, .int v765), (6, .int (bI v763)), (0, .ref x0), (1, .int x1), (2, .long v361), (4, .long 0)]) hx hb dX0_areOrdered_478 hl (k := 5) rfl (by rw [ev765]; rfl) (by decide) rfl (fun ls hl => ?_)
          refine lv_goto (tgt := 48) hx hb dX0_areOrdered_481 (by decide) ?_
          obtain rfl := Option.some.inj h
          exact ih v361 v763 v765 w357 hk _ _ (hcN 7115 (Nat.le_of_ble_eq_true rfl)) (hsN 56164 (Nat.le_of_ble_eq_true rfl)) H locs hS hF h_x0 h_x0r0 h_x0r0r0 h_x0r0r1 h_x0r0r2 ls (lv_sub hl [2, 3, 4, 5, 1, 0] rfl) K484
        clear eK764
        obtain ⟨K766, eK766, h⟩ := lt_step h
        have HK766 : ∀  (h : K766 () = some z358) (H : Heap) (locs : List Loc) (hS : St D s H locs) (hF : Off (fun a => a = x0r0 ∨ a = x0r0r1) s.heap H) (h_x0 : OA D 1 x0 [.ref x0r0] H) (h_x0r0 : ON D 0 x0r0 [.ref x0r0r0, .ref x0r0r1, .ref x0r0r2, .int x0r0f3, .int w15.2, .int x0r0f5, .int x0r0f6] H) (h_x0r0r0 : aD D x0r0r0 8 x0r0r0c H) (h_x0r0r1 : aD D x0r0r1 8 w15.1 H) (h_x0r0r2 : aZ D x0r0r2 8 x0r0r2c H) (ls : Array Slot) (hl : lv_has ls 15 [(0, .ref x0), (1, .int x1), (2, .long v361), (4, .long 0), (7, .int v27)]), W p l e R_X0_areOrdered s m A below meth c H locs (cl + 7115) (sl + 56164) Q (F0 m 475 ls []) := by
          intro h H locs hS hF h_x0 h_x0r0 h_x0r0r0 h_x0r0r1 h_x0r0r2 ls hl
          subst eK766
          refine lv_iconst (v := 0) hx hb dX0_areOrdered_475 (by decide) ?_
          exact HK764 false h H locs hS hF h_x0 h_x0r0 h_x0r0r0 h_x0r0r1 h_x0r0r2 ls (lv_sub hl [0, 1, 2, 3, 4] rfl)
        clear eK766
        refine r_ifz_eq (tgt := 475) hx hb dX0_areOrdered_438 (by decide) (fun c767 => ?_) (fun c767 => ?_)
        · have h := it_neg h (by rw [c767]; decide)
          exact HK766  h H locs hS hF h_x0 h_x0r0 h_x0r0r0 h_x0r0r1 h_x0r0r2 ls (lv_sub hl [0, 1, 2, 3, 5] rfl)
        · have h := it_pos h (by rw [c767])
          refine lv_aload_n hx hb dX0_areOrdered_441 rfl (lv_at hl 0 rfl) ?_
          refine r_get hx hb hts hown hS h_x0 rfl in_X0 0 (by decide) q936 rfl (v := .ref x0r0) rfl dX0_areOrdered_442 ?_
          refine lv_iload hx hb dX0_areOrdered_445 (lv_at hl 5 rfl) ?_
          refine lv_iconst (v := 0) hx hb dX0_areOrdered_447 (by decide) ?_
          obtain ⟨o768, eo768, h⟩ := bind_step h
          refine r_cp (r_runV (rest := []) (As := [.int v27, .int 0]) hC 2 (m_X1_heightFind x0r0 x0r0r0 x0r0r1 x0r0r2  x0r0r0c w15.1 x0r0r2c x0r0f3 w15.2 x0r0f5 x0r0f6 v27 false o768 eo768) q1736 q1284 q1285 q46 q1286 (OA.recv hS h_x0r0.OA (C := RX1) rfl) hd_X1_heightFind rfl ⟨Nat.le_of_ble_eq_true rfl, Nat.le_of_ble_eq_true rfl⟩ hS ⟨h_x0r0, h_x0r0r0, h_x0r0r1, h_x0r0r2⟩ hl.1 rfl (Nat.le_of_ble_eq_true rfl) dX0_areOrdered_448 ⟨by have := hcE; have := hsE; omega, by have := hcE; have := hsE; omega⟩) ?_
          refine lv_iload hx hb dX0_areOrdered_451 (lv_at hl 6 rfl) ?_
          refine lv_icmp_ne (tgt := 475) hx hb dX0_areOrdered_453 (by decide) (fun c769 => ?_) (fun c769 => ?_)
          · have h := it_neg h c769
            exact HK766  h H locs hS hF h_x0 h_x0r0 h_x0r0r0 h_x0r0r1 h_x0r0r2 ls (lv_sub hl [0, 1, 2, 3, 5] rfl)
          · have h := it_pos h c769
            refine lv_aload_n hx hb dX0_areOrdered_456 rfl (lv_at hl 0 rfl) ?_
            refine r_get hx hb hts hown hS h_x0 rfl in_X0 0 (by decide) q936 rfl (v := .ref x0r0) rfl dX0_areOrdered_457 ?_
            refine lv_iload hx hb dX0_areOrdered_460 (lv_at hl 5 rfl) ?_
            refine lv_iconst (v := 1) hx hb dX0_areOrdered_462 (by decide) ?_
            obtain ⟨o770, eo770, h⟩ := bind_step h
            refine r_cp (r_runV (rest := []) (As := [.int v27, .int 1]) hC 2 (m_X1_heightFind x0r0 x0r0r0 x0r0r1 x0r0r2  x0r0r0c w15.1 x0r0r2c x0r0f3 w15.2 x0r0f5 x0r0f6 v27 true o770 eo770) q1736 q1284 q1285 q46 q1286 (OA.recv hS h_x0r0.OA (C := RX1) rfl) hd_X1_heightFind rfl ⟨Nat.le_of_ble_eq_true rfl, Nat.le_of_ble_eq_true rfl⟩ hS ⟨h_x0r0, h_x0r0r0, h_x0r0r1, h_x0r0r2⟩ hl.1 rfl (Nat.le_of_ble_eq_true rfl) dX0_areOrdered_463 ⟨by have := hcE; have := hsE; omega, by have := hcE; have := hsE; omega⟩) ?_
            refine lv_iload hx hb dX0_areOrdered_466 (lv_at hl 7 rfl) ?_
            refine lv_icmp_ne (tgt := 475) hx hb dX0_areOrdered_468 (by decide) (fun c771 => ?_) (fun c771 => ?_)
            · have h := it_neg h c771
              exact HK766  h H locs hS hF h_x0 h_x0r0 h_x0r0r0 h_x0r0r1 h_x0r0r2 ls (lv_sub hl [0, 1, 2, 3, 5] rfl)
            · have h := it_pos h c771
              refine lv_iconst (v := 1) hx hb dX0_areOrdered_471 (by decide) ?_
              refine lv_goto (tgt := 476) hx hb dX0_areOrdered_472 (by decide) ?_
              exact HK764 true h H locs hS hF h_x0 h_x0r0 h_x0r0r0 h_x0r0r1 h_x0r0r2 ls (lv_sub hl [0, 1, 2, 3, 5] rfl)
  clear eF356
  refine HL 9 0 true 0 w357 ew357 _ _ (Nat.le_of_eq eCE.symm) (Nat.le_of_eq eSE.symm) H locs hS hF h_x0 h_x0r0 h_x0r0r0 h_x0r0r1 h_x0r0r2 ls (lv_sub hl [4, 5, 3, 2, 1, 0] rfl) (fun  H locs hS hF h_x0 h_x0r0 h_x0r0r0 h_x0r0r1 h_x0r0r2 ls hl => ?_)
  rw [eCE, eSE]
  refine lv_iload hx hb dX0_areOrdered_484 (lv_at hl 4 rfl) ?_
  obtain ⟨K775, eK775, h⟩ := lt_step h
  have HK775 : ∀ (f772 : Nat → UInt64) (v773 : Int32) (v774 : Bool) (h : K775 f772 v773 v774 = some r) (H : Heap) (locs : List Loc) (hS : St D s H locs) (hF : Off (fun a => a = x0r0 ∨ a = x0r0r1) s.heap H) (h_x0 : OA D 1 x0 [.ref x0r0] H) (h_x0r0 : ON D 0 x0r0 [.ref x0r0r0, .ref x0r0r1, .ref x0r0r2, .int x0r0f3, .int v773, .int x0r0f5, .int x0r0f6] H) (h_x0r0r0 : aD D x0r0r0 8 x0r0r0c H) (h_x0r0r1 : aD D x0r0r1 8 f772 H) (h_x0r0r2 : aZ D x0r0r2 8 x0r0r2c H) (ls : Array Slot) (hl : lv_has ls 15 [(0, .ref x0), (1, .int x1), (2, .long w357.1), (4, .long 0)]), W p l e R_X0_areOrdered s m A below meth c H locs 65360 519487 Q (F0 m 514 ls [.int (bI v774)]) := by
    intro f772 v773 v774 h H locs hS hF h_x0 h_x0r0 h_x0r0r0 h_x0r0r1 h_x0r0r2 ls hl
    subst eK775
    refine lv_istore (lv' := [(6, .int (bI v774)), (0, .ref x0), (1, .int x1), (2, .long w357.1), (4, .long 0)]) hx hb dX0_areOrdered_514 hl (by decide) rfl (fun ls hl => ?_)
    refine lv_iconst (v := 0) hx hb dX0_areOrdered_516 (by decide) ?_
    refine lv_istore (lv' := [(7, .int 0), (6, .int (bI v774)), (0, .ref x0), (1, .int x1), (2, .long w357.1), (4, .long 0)]) hx hb dX0_areOrdered_517 hl (by decide) rfl (fun ls hl => ?_)
    obtain ⟨F793, eF793, h⟩ := lt_step h
    obtain ⟨w794, ew794, h⟩ := bind_step h
    obtain ⟨CE, eCE⟩ : ∃ x : Nat, x = 65360 + 711 := ⟨_, rfl⟩
    obtain ⟨SE, eSE⟩ : ∃ x : Nat, x = 519487 + 5562 := ⟨_, rfl⟩
    have hCE : CE ≤ R_X0_areOrdered.cells := (by rw [eCE]; exact Nat.le_of_ble_eq_true rfl)
    have hSE : SE ≤ R_X0_areOrdered.slots := (by rw [eSE]; exact Nat.le_of_ble_eq_true rfl)
    have HL : ∀ (n : Nat) (v776 : Int64) (v777 : Bool) (v778 : Int32) (w794 : Int64 × Bool) (hk0 : lp n (fun x => F793 x.1 x.2.1 x.2.2) (v776, v777, v778) = some w794) (cl : Nat) (sl : Nat) (hcl : cl + 79 * n ≤ CE) (hsl : sl + 618 * n ≤ SE) (H : Heap) (locs : List Loc) (hS : St D s H locs) (hF : Off (fun a => a = x0r0 ∨ a = x0r0r1) s.heap H) (h_x0 : OA D 1 x0 [.ref x0r0] H) (h_x0r0 : ON D 0 x0r0 [.ref x0r0r0, .ref x0r0r1, .ref x0r0r2, .int x0r0f3, .int v773, .int x0r0f5, .int x0r0f6] H) (h_x0r0r0 : aD D x0r0r0 8 x0r0r0c H) (h_x0r0r1 : aD D x0r0r1 8 f772 H) (h_x0r0r2 : aZ D x0r0r2 8 x0r0r2c H) (ls : Array Slot) (hl : lv_has ls 15 [(0, .ref x0), (1, .int x1), (2, .long w357.1), (4, .long v776), (6, .int (bI v777)), (7, .int v778)]) (K577 : ∀ (H : Heap) (locs : List Loc) (hS : St D s H locs) (hF : Off (fun a => a = x0r0 ∨ a = x0r0r1) s.heap H) (h_x0 : OA D 1 x0 [.ref x0r0] H) (h_x0r0 : ON D 0 x0r0 [.ref x0r0r0, .ref x0r0r1, .ref x0r0r2, .int x0r0f3, .int v773, .int x0r0f5, .int x0r0f6] H) (h_x0r0r0 : aD D x0r0r0 8 x0r0r0c H) (h_x0r0r1 : aD D x0r0r1 8 f772 H) (h_x0r0r2 : aZ D x0r0r2 8 x0r0r2c H) (ls : Array Slot) (hl : lv_has ls 15 [(0, .ref x0), (1, .int x1), (2, .long w357.1), (4, .long w794.1), (6, .int (bI w794.2))]), W p l e R_X0_areOrdered s m A below meth c H locs CE SE Q (F0 m 577 ls [])), W p l e R_X0_areOrdered s m A below meth c H locs cl sl Q (F0 m 519 ls []) := by
      intro n
      induction n with
      | zero => intro v776 v777 v778 w794 hk0 cl sl hcl hsl H locs hS hF h_x0 h_x0r0 h_x0r0r0 h_x0r0r1 h_x0r0r2 ls hl K577; exact lp_zero hk0
      | succ n ih =>
        intro v776 v777 v778 w794 hk0 cl sl hcl hsl H locs hS hF h_x0 h_x0r0 h_x0r0r0 h_x0r0r1 h_x0r0r2 ls hl K577
        obtain ⟨z795, hz, hk⟩ := lp_step hk0
        have h := (congrFun (congrFun (congrFun (eF793) v776) v777) v778).symm.trans hz
        have hcO : cl + 79 ≤ CE := al_out hcl
        have hcE : cl + 79 ≤ R_X0_areOrdered.cells := Nat.le_trans hcO hCE
        have hcN : ∀ a, a ≤ 79 → cl + a + 79 * n ≤ CE := fun a ha => al_next hcl ha
        have hcN0 : cl + 79 * n ≤ CE := al_next hcl (Nat.zero_le _)
        have hsO : sl + 618 ≤ SE := al_out hsl
        have hsE : sl + 618 ≤ R_X0_areOrdered.slots := Nat.le_trans hsO hSE
        have hsN : ∀ a, a ≤ 618 → sl + a + 618 * n ≤ SE := fun a ha => al_next hsl ha
        have hsN0 : sl + 618 * n ≤ SE := al_next hsl (Nat.zero_le _)
        clear hcl hsl
        refine lv_iload hx hb dX0_areOrdered_519 (lv_at hl 5 rfl) ?_
        refine lv_bipush (v := 8) hx hb dX0_areOrdered_521 (by decide) ?_
        refine lv_icmp_ge (tgt := 577) hx hb dX0_areOrdered_523 (by decide) (fun c796 => ?_) (fun c796 => ?_)
        · have h := it_pos h c796
          obtain rfl := Option.some.inj h
          obtain rfl := id hk
          refine W.widen (k := CE) (n := SE) (by omega) (by omega) ?_
          exact K577 H locs hS hF h_x0 h_x0r0 h_x0r0r0 h_x0r0r1 h_x0r0r2 ls (lv_sub hl [0, 1, 2, 3, 4] rfl)
        · have h := it_neg h c796
          refine lv_lload hx hb dX0_areOrdered_526 (lv_at hl 3 rfl) ?_
          refine lv_aload_n hx hb dX0_areOrdered_528 rfl (lv_at hl 0 rfl) ?_
          refine lv_iload hx hb dX0_areOrdered_529 (lv_at hl 5 rfl) ?_
          obtain ⟨o797, eo797, h⟩ := bind_step h
          refine r_cl (r_runV (rest := [.long v776]) (As := [.int v778]) hC 1 (m_X0_told_2 x0 x0r0 x0r0r0 x0r0r1 x0r0r2  x0r0r0c f772 x0r0r2c x0r0f3 v773 x0r0f5 x0r0f6 v778 o797 eo797) q1194 q1196 qs12 q39 q1197 (OA.recv hS h_x0 (C := RX0) rfl) hd_X0_told_2 rfl ⟨Nat.le_of_ble_eq_true rfl, Nat.le_of_ble_eq_true rfl⟩ hS ⟨h_x0, h_x0r0, h_x0r0r0, h_x0r0r1, h_x0r0r2⟩ hl.1 rfl (Nat.le_of_ble_eq_true rfl) dX0_areOrdered_531 ⟨by have := hcE; have := hsE; omega, by have := hcE; have := hsE; omega⟩) hS (fun b H locs hp hS hz => ?_)
          obtain ⟨eb_, hO⟩ := hp
          rw [eb_]
          have h_x0 := h_x0.ext hO
          have h_x0r0 := h_x0r0.ext hO
          have h_x0r0r0 := h_x0r0r0.ext hO
          have h_x0r0r1 := h_x0r0r1.ext hO
          have h_x0r0r2 := h_x0r0r2.ext hO
          have hF := hF.trans (hO.mono (fun _ _ z => z.elim))
          obtain ⟨v798, ev798, h⟩ := ltl_step h
          refine r_ladd hx hb ev798 dX0_areOrdered_534 ?_
          refine lv_lstore (lv' := [(4, .long v798), (0, .ref x0), (1, .int x1), (2, .long w357.1), (6, .int (bI v777)), (7, .int v778)]) hx hb dX0_areOrdered_535 hl (by decide) rfl (fun ls hl => ?_)
          refine lv_iload hx hb dX0_areOrdered_537 (lv_at hl 4 rfl) ?_
          obtain ⟨K800, eK800, h⟩ := lt_step h
          have HK800 : ∀ (v799 : Bool) (h : K800 v799 = some z795) (H : Heap) (locs : List Loc) (hS : St D s H locs) (hF : Off (fun a => a = x0r0 ∨ a = x0r0r1) s.heap H) (h_x0 : OA D 1 x0 [.ref x0r0] H) (h_x0r0 : ON D 0 x0r0 [.ref x0r0r0, .ref x0r0r1, .ref x0r0r2, .int x0r0f3, .int v773, .int x0r0f5, .int x0r0f6] H) (h_x0r0r0 : aD D x0r0r0 8 x0r0r0c H) (h_x0r0r1 : aD D x0r0r1 8 f772 H) (h_x0r0r2 : aZ D x0r0r2 8 x0r0r2c H) (ls : Array Slot) (hl : lv_has ls 15 [(0, .ref x0), (1, .int x1), (2, .long w357.1), (4, .long v798), (7, .int v778)]), W p l e R_X0_areOrdered s m A below meth c H locs (cl + 79) (sl + 618) Q (F0 m 569 ls [.int (bI v799)]) := by
            intro v799 h H locs hS hF h_x0 h_x0r0 h_x0r0r0 h_x0r0r1 h_x0r0r2 ls hl
            subst eK800
            refine lv_istore (lv' := [(6, .int (bI v799)), (0, .ref x0), (1, .int x1), (2, .long w357.1), (4, .long v798), (7, .int v778)]) hx hb dX0_areOrdered_569 hl (by decide) rfl (fun ls hl => ?_)
            obtain ⟨v801, ev801, h⟩ := lti_step h
            refine lv_iinc (v := v801) (lv' := [(7, .int v801), (6, .int (bI v799)), (0, .ref x0), (1, .int x1), (2, .long w357.1), (4, .long v798)]) hx hb dX0_areOrdered_571 hl (k := 5) rfl (by rw [ev801]; rfl) (by decide) rfl (fun ls hl => ?_)
            refine lv_goto (tgt := 519) hx hb dX0_areOrdered_574 (by decide) ?_
            obtain rfl := Option.some.inj h
            exact ih v798 v799 v801 w794 hk _ _ (hcN 79 (Nat.le_of_ble_eq_true rfl)) (hsN 618 (Nat.le_of_ble_eq_true rfl)) H locs hS hF h_x0 h_x0r0 h_x0r0r0 h_x0r0r1 h_x0r0r2 ls (lv_sub hl [2, 3, 4, 5, 1, 0] rfl) K577
          clear eK800
          obtain ⟨K802, eK802, h⟩ := lt_step h
          have HK802 : ∀  (h : K802 () = some z795) (H : Heap) (locs : List Loc) (hS : St D s H locs) (hF : Off (fun a => a = x0r0 ∨ a = x0r0r1) s.heap H) (h_x0 : OA D 1 x0 [.ref x0r0] H) (h_x0r0 : ON D 0 x0r0 [.ref x0r0r0, .ref x0r0r1, .ref x0r0r2, .int x0r0f3, .int v773, .int x0r0f5, .int x0r0f6] H) (h_x0r0r0 : aD D x0r0r0 8 x0r0r0c H) (h_x0r0r1 : aD D x0r0r1 8 f772 H) (h_x0r0r2 : aZ D x0r0r2 8 x0r0r2c H) (ls : Array Slot) (hl : lv_has ls 15 [(0, .ref x0), (1, .int x1), (2, .long w357.1), (4, .long v798), (7, .int v778)]), W p l e R_X0_areOrdered s m A below meth c H locs (cl + 79) (sl + 618) Q (F0 m 568 ls []) := by
            intro h H locs hS hF h_x0 h_x0r0 h_x0r0r0 h_x0r0r1 h_x0r0r2 ls hl
            subst eK802
            refine lv_iconst (v := 0) hx hb dX0_areOrdered_568 (by decide) ?_
            exact HK800 false h H locs hS hF h_x0 h_x0r0 h_x0r0r0 h_x0r0r1 h_x0r0r2 ls (lv_sub hl [0, 1, 2, 3, 4] rfl)
          clear eK802
          refine r_ifz_eq (tgt := 568) hx hb dX0_areOrdered_539 (by decide) (fun c803 => ?_) (fun c803 => ?_)
          · have h := it_neg h (by rw [c803]; decide)
            refine W.widen (k := cl + 79) (n := sl + 618) (by omega) (by omega) ?_
            exact HK802  h H locs hS hF h_x0 h_x0r0 h_x0r0r0 h_x0r0r1 h_x0r0r2 ls (lv_sub hl [1, 2, 3, 0, 5] rfl)
          · have h := it_pos h (by rw [c803])
            refine lv_iload hx hb dX0_areOrdered_542 (lv_at hl 5 rfl) ?_
            obtain ⟨K804, eK804, h⟩ := lt_step h
            have HK804 : ∀  (h : K804 () = some z795) (H : Heap) (locs : List Loc) (hS : St D s H locs) (hF : Off (fun a => a = x0r0 ∨ a = x0r0r1) s.heap H) (h_x0 : OA D 1 x0 [.ref x0r0] H) (h_x0r0 : ON D 0 x0r0 [.ref x0r0r0, .ref x0r0r1, .ref x0r0r2, .int x0r0f3, .int v773, .int x0r0f5, .int x0r0f6] H) (h_x0r0r0 : aD D x0r0r0 8 x0r0r0c H) (h_x0r0r1 : aD D x0r0r1 8 f772 H) (h_x0r0r2 : aZ D x0r0r2 8 x0r0r2c H) (ls : Array Slot) (hl : lv_has ls 15 [(0, .ref x0), (1, .int x1), (2, .long w357.1), (4, .long v798), (7, .int v778)]), W p l e R_X0_areOrdered s m A below meth c H locs (cl + 79) (sl + 618) Q (F0 m 564 ls []) := by
              intro h H locs hS hF h_x0 h_x0r0 h_x0r0r0 h_x0r0r1 h_x0r0r2 ls hl
              subst eK804
              refine lv_iconst (v := 1) hx hb dX0_areOrdered_564 (by decide) ?_
              refine lv_goto (tgt := 569) hx hb dX0_areOrdered_565 (by decide) ?_
              exact HK800 true h H locs hS hF h_x0 h_x0r0 h_x0r0r0 h_x0r0r1 h_x0r0r2 ls (lv_sub hl [0, 1, 2, 3, 4] rfl)
            clear eK804
            refine lv_if_eq (tgt := 564) hx hb dX0_areOrdered_544 (by decide) (fun c805 => ?_) (fun c805 => ?_)
            · have h := it_pos h c805
              refine W.widen (k := cl + 79) (n := sl + 618) (by omega) (by omega) ?_
              exact HK804  h H locs hS hF h_x0 h_x0r0 h_x0r0r0 h_x0r0r1 h_x0r0r2 ls (lv_sub hl [1, 2, 3, 0, 5] rfl)
            · have h := it_neg h c805
              refine lv_aload_n hx hb dX0_areOrdered_547 rfl (lv_at hl 1 rfl) ?_
              refine r_get hx hb hts hown hS h_x0 rfl in_X0 0 (by decide) q936 rfl (v := .ref x0r0) rfl dX0_areOrdered_548 ?_
              refine lv_iload hx hb dX0_areOrdered_551 (lv_at hl 5 rfl) ?_
              refine lv_iconst (v := 1) hx hb dX0_areOrdered_553 (by decide) ?_
              obtain ⟨v806, ev806, h⟩ := lti_step h
              refine r_isub hx hb ev806 dX0_areOrdered_554 ?_
              refine lv_iload hx hb dX0_areOrdered_555 (lv_at hl 5 rfl) ?_
              refine lv_iconst (v := 0) hx hb dX0_areOrdered_557 (by decide) ?_
              obtain ⟨o807, eo807, h⟩ := bind_step h
              refine r_ci (r_runV (rest := []) (As := [.int v806, .int v778, .int 0]) hC 3 (m_X1_heightOrder x0r0 x0r0r0 x0r0r1 x0r0r2  x0r0r0c f772 x0r0r2c x0r0f3 v773 x0r0f5 x0r0f6 v806 v778 0 o807 eo807) q1604 q1288 q1289 q46 q1290 (OA.recv hS h_x0r0.OA (C := RX1) rfl) hd_X1_heightOrder rfl ⟨Nat.le_of_ble_eq_true rfl, Nat.le_of_ble_eq_true rfl⟩ hS ⟨h_x0r0, h_x0r0r0, h_x0r0r1, h_x0r0r2⟩ hl.1 rfl (Nat.le_of_ble_eq_true rfl) dX0_areOrdered_558 ⟨by have := hcE; have := hsE; omega, by have := hcE; have := hsE; omega⟩) hS (fun b H locs hp hS hz => ?_)
              obtain ⟨eb_, hO⟩ := hp
              rw [eb_]
              have h_x0 := h_x0.ext hO
              have h_x0r0 := h_x0r0.ext hO
              have h_x0r0r0 := h_x0r0r0.ext hO
              have h_x0r0r1 := h_x0r0r1.ext hO
              have h_x0r0r2 := h_x0r0r2.ext hO
              have hF := hF.trans (hO.mono (fun _ _ z => z.elim))
              refine lv_if_gt (tgt := 568) hx hb dX0_areOrdered_561 (by decide) (fun c808 => ?_) (fun c808 => ?_)
              · have h := it_pos h c808
                exact HK802  h H locs hS hF h_x0 h_x0r0 h_x0r0r0 h_x0r0r1 h_x0r0r2 ls (lv_sub hl [1, 2, 3, 0, 5] rfl)
              · have h := it_neg h c808
                exact HK804  h H locs hS hF h_x0 h_x0r0 h_x0r0r0 h_x0r0r1 h_x0r0r2 ls (lv_sub hl [1, 2, 3, 0, 5] rfl)
    clear eF793
    refine HL 9 0 v774 0 w794 ew794 _ _ (Nat.le_of_eq eCE.symm) (Nat.le_of_eq eSE.symm) H locs hS hF h_x0 h_x0r0 h_x0r0r0 h_x0r0r1 h_x0r0r2 ls (lv_sub hl [2, 3, 4, 5, 1, 0] rfl) (fun  H locs hS hF h_x0 h_x0r0 h_x0r0r0 h_x0r0r1 h_x0r0r2 ls hl => ?_)
    rw [eCE, eSE]
    refine lv_iload hx hb dX0_areOrdered_577 (lv_at hl 4 rfl) ?_
    obtain ⟨K812, eK812, h⟩ := lt_step h
    have HK812 : ∀ (f809 : Nat → UInt64) (v810 : Int32) (v811 : Bool) (h : K812 f809 v810 v811 = some r) (H : Heap) (locs : List Loc) (hS : St D s H locs) (hF : Off (fun a => a = x0r0 ∨ a = x0r0r1) s.heap H) (h_x0 : OA D 1 x0 [.ref x0r0] H) (h_x0r0 : ON D 0 x0r0 [.ref x0r0r0, .ref x0r0r1, .ref x0r0r2, .int x0r0f3, .int v810, .int x0r0f5, .int x0r0f6] H) (h_x0r0r0 : aD D x0r0r0 8 x0r0r0c H) (h_x0r0r1 : aD D x0r0r1 8 f809 H) (h_x0r0r2 : aZ D x0r0r2 8 x0r0r2c H) (ls : Array Slot) (hl : lv_has ls 15 [(0, .ref x0), (1, .int x1)]), W p l e R_X0_areOrdered s m A below meth c H locs 66071 525049 Q (F0 m 632 ls [.int (bI v811)]) := by
      intro f809 v810 v811 h H locs hS hF h_x0 h_x0r0 h_x0r0r0 h_x0r0r1 h_x0r0r2 ls hl
      subst eK812
      refine lv_istore (lv' := [(6, .int (bI v811)), (0, .ref x0), (1, .int x1)]) hx hb dX0_areOrdered_632 hl (by decide) rfl (fun ls hl => ?_)
      refine lv_aload_n hx hb dX0_areOrdered_634 rfl (lv_at hl 1 rfl) ?_
      refine r_get hx hb hts hown hS h_x0 rfl in_X0 0 (by decide) q936 rfl (v := .ref x0r0) rfl dX0_areOrdered_635 ?_
      refine lv_iconst (v := 1) hx hb dX0_areOrdered_638 (by decide) ?_
      refine lv_iconst (v := 3) hx hb dX0_areOrdered_639 (by decide) ?_
      obtain ⟨o813, eo813, h⟩ := bind_step h
      refine r_ci (r_runV (rest := []) (As := [.int 1, .int 3]) hC 2 (m_X1_heightEnd x0r0 x0r0r0 x0r0r1 x0r0r2  x0r0r0c f809 x0r0r2c x0r0f3 v810 x0r0f5 x0r0f6 true 3 o813 eo813) q1751 q1752 q1753 q46 q1754 (OA.recv hS h_x0r0.OA (C := RX1) rfl) hd_X1_heightEnd rfl ⟨Nat.le_of_ble_eq_true rfl, Nat.le_of_ble_eq_true rfl⟩ hS ⟨h_x0r0, hB_h_x0r0, h_x0r0r0, h_x0r0r1, hB_h_x0r0r1, h_x0r0r2, ne_x0r0_x0r0r0, ne_x0r0_x0r0r1, ne_x0r0_x0r0r2, ne_x0r0r0_x0r0r1, ne_x0r0r1_x0r0r2⟩ hl.1 rfl (Nat.le_of_ble_eq_true rfl) dX0_areOrdered_640 ⟨Nat.le_of_ble_eq_true rfl, Nat.le_of_ble_eq_true rfl⟩) hS (fun b H locs hp hS hz => ?_)
      obtain ⟨rfl, h_x0r0, h_x0r0r1, hO⟩ := hp
      have h_x0 := h_x0.off hO (fun z => by rcases z with z | z <;> first | exact ne_x0_x0r0 z | exact ne_x0_x0r0r1 z)
      have h_x0r0r0 := h_x0r0r0.off hO (fun z => by rcases z with z | z <;> first | exact (Ne.symm ne_x0r0_x0r0r0) z | exact ne_x0r0r0_x0r0r1 z)
      have h_x0r0r2 := h_x0r0r2.off hO (fun z => by rcases z with z | z <;> first | exact (Ne.symm ne_x0r0_x0r0r2) z | exact (Ne.symm ne_x0r0r1_x0r0r2) z)
      have hF := hF.fresh hO (fun a ha z => by
        rcases z with z | z
        · exact Or.inl z
        · exact Or.inr (z))
      refine lv_pop hx hb dX0_areOrdered_643 rfl ?_
      refine lv_aload_n hx hb dX0_areOrdered_644 rfl (lv_at hl 1 rfl) ?_
      refine r_get hx hb hts hown hS h_x0 rfl in_X0 0 (by decide) q936 rfl (v := .ref x0r0) rfl dX0_areOrdered_645 ?_
      refine lv_iconst (v := 0) hx hb dX0_areOrdered_648 (by decide) ?_
      refine lv_iconst (v := 4) hx hb dX0_areOrdered_649 (by decide) ?_
      obtain ⟨o814, eo814, h⟩ := bind_step h
      refine r_ci (r_runV (rest := []) (As := [.int 0, .int 4]) hC 2 (m_X1_heightEnd x0r0 x0r0r0 x0r0r1 x0r0r2  x0r0r0c o813.2.2 x0r0r2c x0r0f3 o813.2.1 x0r0f5 x0r0f6 false 4 o814 eo814) q1751 q1752 q1753 q46 q1754 (OA.recv hS h_x0r0.OA (C := RX1) rfl) hd_X1_heightEnd rfl ⟨Nat.le_of_ble_eq_true rfl, Nat.le_of_ble_eq_true rfl⟩ hS ⟨h_x0r0, hB_h_x0r0, h_x0r0r0, h_x0r0r1, hB_h_x0r0r1, h_x0r0r2, ne_x0r0_x0r0r0, ne_x0r0_x0r0r1, ne_x0r0_x0r0r2, ne_x0r0r0_x0r0r1, ne_x0r0r1_x0r0r2⟩ hl.1 rfl (Nat.le_of_ble_eq_true rfl) dX0_areOrdered_650 ⟨Nat.le_of_ble_eq_true rfl, Nat.le_of_ble_eq_true rfl⟩) hS (fun b H locs hp hS hz => ?_)
      obtain ⟨rfl, h_x0r0, h_x0r0r1, hO⟩ := hp
      have h_x0 := h_x0.off hO (fun z => by rcases z with z | z <;> first | exact ne_x0_x0r0 z | exact ne_x0_x0r0r1 z)
      have h_x0r0r0 := h_x0r0r0.off hO (fun z => by rcases z with z | z <;> first | exact (Ne.symm ne_x0r0_x0r0r0) z | exact ne_x0r0r0_x0r0r1 z)
      have h_x0r0r2 := h_x0r0r2.off hO (fun z => by rcases z with z | z <;> first | exact (Ne.symm ne_x0r0_x0r0r2) z | exact (Ne.symm ne_x0r0r1_x0r0r2) z)
      have hF := hF.fresh hO (fun a ha z => by
        rcases z with z | z
        · exact Or.inl z
        · exact Or.inr (z))
      refine lv_pop hx hb dX0_areOrdered_653 rfl ?_
      refine lv_iconst (v := 0) hx hb dX0_areOrdered_654 (by decide) ?_
      refine lv_istore (lv' := [(7, .int 0), (6, .int (bI v811)), (0, .ref x0), (1, .int x1)]) hx hb dX0_areOrdered_655 hl (by decide) rfl (fun ls hl => ?_)
      obtain ⟨F828, eF828, h⟩ := lt_step h
      obtain ⟨w829, ew829, h⟩ := bind_step h
      obtain ⟨CE, eCE⟩ : ∃ x : Nat, x = 66071 + 36 := ⟨_, rfl⟩
      obtain ⟨SE, eSE⟩ : ∃ x : Nat, x = 525049 + 36 := ⟨_, rfl⟩
      have hCE : CE ≤ R_X0_areOrdered.cells := (by rw [eCE]; exact Nat.le_of_ble_eq_true rfl)
      have hSE : SE ≤ R_X0_areOrdered.slots := (by rw [eSE]; exact Nat.le_of_ble_eq_true rfl)
      have HL : ∀ (n : Nat) (v815 : Bool) (v816 : Int32) (w829 : Bool) (hk0 : lp n (fun x => F828 x.1 x.2) (v815, v816) = some w829) (cl : Nat) (sl : Nat) (hcl : cl + 4 * n ≤ CE) (hsl : sl + 4 * n ≤ SE) (H : Heap) (locs : List Loc) (hS : St D s H locs) (hF : Off (fun a => a = x0r0 ∨ a = x0r0r1) s.heap H) (h_x0 : OA D 1 x0 [.ref x0r0] H) (h_x0r0 : ON D 0 x0r0 [.ref x0r0r0, .ref x0r0r1, .ref x0r0r2, .int x0r0f3, .int o814.2.1, .int x0r0f5, .int x0r0f6] H) (h_x0r0r0 : aD D x0r0r0 8 x0r0r0c H) (h_x0r0r1 : aD D x0r0r1 8 o814.2.2 H) (h_x0r0r2 : aZ D x0r0r2 8 x0r0r2c H) (ls : Array Slot) (hl : lv_has ls 15 [(0, .ref x0), (1, .int x1), (6, .int (bI v815)), (7, .int v816)]) (K710 : ∀ (H : Heap) (locs : List Loc) (hS : St D s H locs) (hF : Off (fun a => a = x0r0 ∨ a = x0r0r1) s.heap H) (h_x0 : OA D 1 x0 [.ref x0r0] H) (h_x0r0 : ON D 0 x0r0 [.ref x0r0r0, .ref x0r0r1, .ref x0r0r2, .int x0r0f3, .int o814.2.1, .int x0r0f5, .int x0r0f6] H) (h_x0r0r0 : aD D x0r0r0 8 x0r0r0c H) (h_x0r0r1 : aD D x0r0r1 8 o814.2.2 H) (h_x0r0r2 : aZ D x0r0r2 8 x0r0r2c H) (ls : Array Slot) (hl : lv_has ls 15 [(0, .ref x0), (1, .int x1), (6, .int (bI w829))]), W p l e R_X0_areOrdered s m A below meth c H locs CE SE Q (F0 m 710 ls [])), W p l e R_X0_areOrdered s m A below meth c H locs cl sl Q (F0 m 657 ls []) := by
        intro n
        induction n with
        | zero => intro v815 v816 w829 hk0 cl sl hcl hsl H locs hS hF h_x0 h_x0r0 h_x0r0r0 h_x0r0r1 h_x0r0r2 ls hl K710; exact lp_zero hk0
        | succ n ih =>
          intro v815 v816 w829 hk0 cl sl hcl hsl H locs hS hF h_x0 h_x0r0 h_x0r0r0 h_x0r0r1 h_x0r0r2 ls hl K710
          obtain ⟨z830, hz, hk⟩ := lp_step hk0
          have h := (congrFun (congrFun (eF828) v815) v816).symm.trans hz
          have hcO : cl + 4 ≤ CE := al_out hcl
          have hcE : cl + 4 ≤ R_X0_areOrdered.cells := Nat.le_trans hcO hCE
          have hcN : ∀ a, a ≤ 4 → cl + a + 4 * n ≤ CE := fun a ha => al_next hcl ha
          have hcN0 : cl + 4 * n ≤ CE := al_next hcl (Nat.zero_le _)
          have hsO : sl + 4 ≤ SE := al_out hsl
          have hsE : sl + 4 ≤ R_X0_areOrdered.slots := Nat.le_trans hsO hSE
          have hsN : ∀ a, a ≤ 4 → sl + a + 4 * n ≤ SE := fun a ha => al_next hsl ha
          have hsN0 : sl + 4 * n ≤ SE := al_next hsl (Nat.zero_le _)
          clear hcl hsl
          refine lv_iload hx hb dX0_areOrdered_657 (lv_at hl 3 rfl) ?_
          refine lv_bipush (v := 8) hx hb dX0_areOrdered_659 (by decide) ?_
          refine lv_icmp_ge (tgt := 710) hx hb dX0_areOrdered_661 (by decide) (fun c831 => ?_) (fun c831 => ?_)
          · have h := it_pos h c831
            obtain rfl := Option.some.inj h
            obtain rfl := id hk
            refine W.widen (k := CE) (n := SE) (by omega) (by omega) ?_
            exact K710 H locs hS hF h_x0 h_x0r0 h_x0r0r0 h_x0r0r1 h_x0r0r2 ls (lv_sub hl [0, 1, 2] rfl)
          · have h := it_neg h c831
            refine lv_iload hx hb dX0_areOrdered_664 (lv_at hl 2 rfl) ?_
            obtain ⟨K833, eK833, h⟩ := lt_step h
            have HK833 : ∀ (v832 : Bool) (h : K833 v832 = some z830) (H : Heap) (locs : List Loc) (hS : St D s H locs) (hF : Off (fun a => a = x0r0 ∨ a = x0r0r1) s.heap H) (h_x0 : OA D 1 x0 [.ref x0r0] H) (h_x0r0 : ON D 0 x0r0 [.ref x0r0r0, .ref x0r0r1, .ref x0r0r2, .int x0r0f3, .int o814.2.1, .int x0r0f5, .int x0r0f6] H) (h_x0r0r0 : aD D x0r0r0 8 x0r0r0c H) (h_x0r0r1 : aD D x0r0r1 8 o814.2.2 H) (h_x0r0r2 : aZ D x0r0r2 8 x0r0r2c H) (ls : Array Slot) (hl : lv_has ls 15 [(0, .ref x0), (1, .int x1), (7, .int v816)]), W p l e R_X0_areOrdered s m A below meth c H locs (cl + 4) (sl + 4) Q (F0 m 702 ls [.int (bI v832)]) := by
              intro v832 h H locs hS hF h_x0 h_x0r0 h_x0r0r0 h_x0r0r1 h_x0r0r2 ls hl
              subst eK833
              refine lv_istore (lv' := [(6, .int (bI v832)), (0, .ref x0), (1, .int x1), (7, .int v816)]) hx hb dX0_areOrdered_702 hl (by decide) rfl (fun ls hl => ?_)
              obtain ⟨v834, ev834, h⟩ := lti_step h
              refine lv_iinc (v := v834) (lv' := [(7, .int v834), (6, .int (bI v832)), (0, .ref x0), (1, .int x1)]) hx hb dX0_areOrdered_704 hl (k := 3) rfl (by rw [ev834]; rfl) (by decide) rfl (fun ls hl => ?_)
              refine lv_goto (tgt := 657) hx hb dX0_areOrdered_707 (by decide) ?_
              obtain rfl := Option.some.inj h
              exact ih v832 v834 w829 hk _ _ (hcN 4 (Nat.le_of_ble_eq_true rfl)) (hsN 4 (Nat.le_of_ble_eq_true rfl)) H locs hS hF h_x0 h_x0r0 h_x0r0r0 h_x0r0r1 h_x0r0r2 ls (lv_sub hl [2, 3, 1, 0] rfl) K710
            clear eK833
            obtain ⟨K835, eK835, h⟩ := lt_step h
            have HK835 : ∀  (h : K835 () = some z830) (H : Heap) (locs : List Loc) (hS : St D s H locs) (hF : Off (fun a => a = x0r0 ∨ a = x0r0r1) s.heap H) (h_x0 : OA D 1 x0 [.ref x0r0] H) (h_x0r0 : ON D 0 x0r0 [.ref x0r0r0, .ref x0r0r1, .ref x0r0r2, .int x0r0f3, .int o814.2.1, .int x0r0f5, .int x0r0f6] H) (h_x0r0r0 : aD D x0r0r0 8 x0r0r0c H) (h_x0r0r1 : aD D x0r0r1 8 o814.2.2 H) (h_x0r0r2 : aZ D x0r0r2 8 x0r0r2c H) (ls : Array Slot) (hl : lv_has ls 15 [(0, .ref x0), (1, .int x1), (7, .int v816)]), W p l e R_X0_areOrdered s m A below meth c H locs (cl + 4) (sl + 4) Q (F0 m 701 ls []) := by
              intro h H locs hS hF h_x0 h_x0r0 h_x0r0r0 h_x0r0r1 h_x0r0r2 ls hl
              subst eK835
              refine lv_iconst (v := 0) hx hb dX0_areOrdered_701 (by decide) ?_
              exact HK833 false h H locs hS hF h_x0 h_x0r0 h_x0r0r0 h_x0r0r1 h_x0r0r2 ls (lv_sub hl [0, 1, 2] rfl)
            clear eK835
            refine r_ifz_eq (tgt := 701) hx hb dX0_areOrdered_666 (by decide) (fun c836 => ?_) (fun c836 => ?_)
            · have h := it_neg h (by rw [c836]; decide)
              refine W.widen (k := cl + 4) (n := sl + 4) (by omega) (by omega) ?_
              exact HK835  h H locs hS hF h_x0 h_x0r0 h_x0r0r0 h_x0r0r1 h_x0r0r2 ls (lv_sub hl [0, 1, 3] rfl)
            · have h := it_pos h (by rw [c836])
              refine lv_aload_n hx hb dX0_areOrdered_669 rfl (lv_at hl 0 rfl) ?_
              refine r_get hx hb hts hown hS h_x0 rfl in_X0 0 (by decide) q936 rfl (v := .ref x0r0) rfl dX0_areOrdered_670 ?_
              refine lv_iload hx hb dX0_areOrdered_673 (lv_at hl 3 rfl) ?_
              refine lv_iconst (v := 3) hx hb dX0_areOrdered_675 (by decide) ?_
              refine lv_iconst (v := 0) hx hb dX0_areOrdered_676 (by decide) ?_
              obtain ⟨o837, eo837, h⟩ := bind_step h
              refine r_ci (r_runV (rest := []) (As := [.int v816, .int 3, .int 0]) hC 3 (m_X1_heightOrder x0r0 x0r0r0 x0r0r1 x0r0r2  x0r0r0c o814.2.2 x0r0r2c x0r0f3 o814.2.1 x0r0f5 x0r0f6 v816 3 0 o837 eo837) q1604 q1288 q1289 q46 q1290 (OA.recv hS h_x0r0.OA (C := RX1) rfl) hd_X1_heightOrder rfl ⟨Nat.le_of_ble_eq_true rfl, Nat.le_of_ble_eq_true rfl⟩ hS ⟨h_x0r0, h_x0r0r0, h_x0r0r1, h_x0r0r2⟩ hl.1 rfl (Nat.le_of_ble_eq_true rfl) dX0_areOrdered_677 ⟨by have := hcE; have := hsE; omega, by have := hcE; have := hsE; omega⟩) hS (fun b H locs hp hS hz => ?_)
              obtain ⟨eb_, hO⟩ := hp
              rw [eb_]
              have h_x0 := h_x0.ext hO
              have h_x0r0 := h_x0r0.ext hO
              have h_x0r0r0 := h_x0r0r0.ext hO
              have h_x0r0r1 := h_x0r0r1.ext hO
              have h_x0r0r2 := h_x0r0r2.ext hO
              have hF := hF.trans (hO.mono (fun _ _ z => z.elim))
              refine lv_if_gt (tgt := 701) hx hb dX0_areOrdered_680 (by decide) (fun c838 => ?_) (fun c838 => ?_)
              · have h := it_pos h c838
                refine W.widen (k := cl + 4) (n := sl + 4) (by omega) (by omega) ?_
                exact HK835  h H locs hS hF h_x0 h_x0r0 h_x0r0r0 h_x0r0r1 h_x0r0r2 ls (lv_sub hl [0, 1, 3] rfl)
              · have h := it_neg h c838
                refine lv_aload_n hx hb dX0_areOrdered_683 rfl (lv_at hl 0 rfl) ?_
                refine r_get hx hb hts hown hS h_x0 rfl in_X0 0 (by decide) q936 rfl (v := .ref x0r0) rfl dX0_areOrdered_684 ?_
                refine lv_iconst (v := 4) hx hb dX0_areOrdered_687 (by decide) ?_
                refine lv_iload hx hb dX0_areOrdered_688 (lv_at hl 3 rfl) ?_
                refine lv_iconst (v := 1) hx hb dX0_areOrdered_690 (by decide) ?_
                obtain ⟨o839, eo839, h⟩ := bind_step h
                refine r_ci (r_runV (rest := []) (As := [.int 4, .int v816, .int 1]) hC 3 (m_X1_heightOrder x0r0 x0r0r0 x0r0r1 x0r0r2  x0r0r0c o814.2.2 x0r0r2c x0r0f3 o814.2.1 x0r0f5 x0r0f6 4 v816 1 o839 eo839) q1604 q1288 q1289 q46 q1290 (OA.recv hS h_x0r0.OA (C := RX1) rfl) hd_X1_heightOrder rfl ⟨Nat.le_of_ble_eq_true rfl, Nat.le_of_ble_eq_true rfl⟩ hS ⟨h_x0r0, h_x0r0r0, h_x0r0r1, h_x0r0r2⟩ hl.1 rfl (Nat.le_of_ble_eq_true rfl) dX0_areOrdered_691 ⟨by have := hcE; have := hsE; omega, by have := hcE; have := hsE; omega⟩) hS (fun b H locs hp hS hz => ?_)
                obtain ⟨eb_, hO⟩ := hp
                rw [eb_]
                have h_x0 := h_x0.ext hO
                have h_x0r0 := h_x0r0.ext hO
                have h_x0r0r0 := h_x0r0r0.ext hO
                have h_x0r0r1 := h_x0r0r1.ext hO
                have h_x0r0r2 := h_x0r0r2.ext hO
                have hF := hF.trans (hO.mono (fun _ _ z => z.elim))
                refine lv_if_gt (tgt := 701) hx hb dX0_areOrdered_694 (by decide) (fun c840 => ?_) (fun c840 => ?_)
                · have h := it_pos h c840
                  exact HK835  h H locs hS hF h_x0 h_x0r0 h_x0r0r0 h_x0r0r1 h_x0r0r2 ls (lv_sub hl [0, 1, 3] rfl)
                · have h := it_neg h c840
                  refine lv_iconst (v := 1) hx hb dX0_areOrdered_697 (by decide) ?_
                  refine lv_goto (tgt := 702) hx hb dX0_areOrdered_698 (by decide) ?_
                  exact HK833 true h H locs hS hF h_x0 h_x0r0 h_x0r0r0 h_x0r0r1 h_x0r0r2 ls (lv_sub hl [0, 1, 3] rfl)
      clear eF828
      refine HL 9 v811 0 w829 ew829 _ _ (Nat.le_of_eq eCE.symm) (Nat.le_of_eq eSE.symm) H locs hS hF h_x0 h_x0r0 h_x0r0r0 h_x0r0r1 h_x0r0r2 ls (lv_sub hl [2, 3, 1, 0] rfl) (fun  H locs hS hF h_x0 h_x0r0 h_x0r0r0 h_x0r0r1 h_x0r0r2 ls hl => ?_)
      rw [eCE, eSE]
      refine lv_aload_n hx hb dX0_areOrdered_710 rfl (lv_at hl 0 rfl) ?_
      refine r_get hx hb hts hown hS h_x0 rfl in_X0 0 (by decide) q936 rfl (v := .ref x0r0) rfl dX0_areOrdered_711 ?_
      refine lv_iconst (v := 3) hx hb dX0_areOrdered_714 (by decide) ?_
      refine lv_iconst (v := 4) hx hb dX0_areOrdered_715 (by decide) ?_
      refine lv_iconst (v := 5) hx hb dX0_areOrdered_716 (by decide) ?_
      obtain ⟨o841, eo841, h⟩ := bind_step h
      refine r_ci (r_runV (rest := []) (As := [.int 3, .int 4, .int 5]) hC 3 (m_X1_heightMax x0r0 x0r0r0 x0r0r1 x0r0r2  x0r0r0c o814.2.2 x0r0r2c x0r0f3 o814.2.1 x0r0f5 x0r0f6 3 4 5 o841 eo841) q1712 q1713 q1714 q46 q1715 (OA.recv hS h_x0r0.OA (C := RX1) rfl) hd_X1_heightMax rfl ⟨Nat.le_of_ble_eq_true rfl, Nat.le_of_ble_eq_true rfl⟩ hS ⟨h_x0r0, hB_h_x0r0, h_x0r0r0, h_x0r0r1, hB_h_x0r0r1, h_x0r0r2, ne_x0r0_x0r0r0, ne_x0r0_x0r0r1, ne_x0r0_x0r0r2, ne_x0r0r0_x0r0r1, ne_x0r0r1_x0r0r2⟩ hl.1 rfl (Nat.le_of_ble_eq_true rfl) dX0_areOrdered_717 ⟨Nat.le_of_ble_eq_true rfl, Nat.le_of_ble_eq_true rfl⟩) hS (fun b H locs hp hS hz => ?_)
      obtain ⟨rfl, h_x0r0, h_x0r0r1, hO⟩ := hp
      have h_x0 := h_x0.off hO (fun z => by rcases z with z | z <;> first | exact ne_x0_x0r0 z | exact ne_x0_x0r0r1 z)
      have h_x0r0r0 := h_x0r0r0.off hO (fun z => by rcases z with z | z <;> first | exact (Ne.symm ne_x0r0_x0r0r0) z | exact ne_x0r0r0_x0r0r1 z)
      have h_x0r0r2 := h_x0r0r2.off hO (fun z => by rcases z with z | z <;> first | exact (Ne.symm ne_x0r0_x0r0r2) z | exact (Ne.symm ne_x0r0r1_x0r0r2) z)
      have hF := hF.fresh hO (fun a ha z => by
        rcases z with z | z
        · exact Or.inl z
        · exact Or.inr (z))
      refine lv_pop hx hb dX0_areOrdered_720 rfl ?_
      refine lv_aload_n hx hb dX0_areOrdered_721 rfl (lv_at hl 0 rfl) ?_
      refine r_get hx hb hts hown hS h_x0 rfl in_X0 0 (by decide) q936 rfl (v := .ref x0r0) rfl dX0_areOrdered_722 ?_
      refine lv_iconst (v := 3) hx hb dX0_areOrdered_725 (by decide) ?_
      refine lv_iconst (v := 4) hx hb dX0_areOrdered_726 (by decide) ?_
      refine lv_bipush (v := 6) hx hb dX0_areOrdered_727 (by decide) ?_
      obtain ⟨o842, eo842, h⟩ := bind_step h
      refine r_ci (r_runV (rest := []) (As := [.int 3, .int 4, .int 6]) hC 3 (m_X1_heightMin x0r0 x0r0r0 x0r0r1 x0r0r2  x0r0r0c o841.2.2 x0r0r2c x0r0f3 o841.2.1 x0r0f5 x0r0f6 3 4 6 o842 eo842) q1741 q1742 q1743 q46 q1744 (OA.recv hS h_x0r0.OA (C := RX1) rfl) hd_X1_heightMin rfl ⟨Nat.le_of_ble_eq_true rfl, Nat.le_of_ble_eq_true rfl⟩ hS ⟨h_x0r0, hB_h_x0r0, h_x0r0r0, h_x0r0r1, hB_h_x0r0r1, h_x0r0r2, ne_x0r0_x0r0r0, ne_x0r0_x0r0r1, ne_x0r0_x0r0r2, ne_x0r0r0_x0r0r1, ne_x0r0r1_x0r0r2⟩ hl.1 rfl (Nat.le_of_ble_eq_true rfl) dX0_areOrdered_729 ⟨Nat.le_of_ble_eq_true rfl, Nat.le_of_ble_eq_true rfl⟩) hS (fun b H locs hp hS hz => ?_)
      obtain ⟨rfl, h_x0r0, h_x0r0r1, hO⟩ := hp
      have h_x0 := h_x0.off hO (fun z => by rcases z with z | z <;> first | exact ne_x0_x0r0 z | exact ne_x0_x0r0r1 z)
      have h_x0r0r0 := h_x0r0r0.off hO (fun z => by rcases z with z | z <;> first | exact (Ne.symm ne_x0r0_x0r0r0) z | exact ne_x0r0r0_x0r0r1 z)
      have h_x0r0r2 := h_x0r0r2.off hO (fun z => by rcases z with z | z <;> first | exact (Ne.symm ne_x0r0_x0r0r2) z | exact (Ne.symm ne_x0r0r1_x0r0r2) z)
      have hF := hF.fresh hO (fun a ha z => by
        rcases z with z | z
        · exact Or.inl z
        · exact Or.inr (z))
      refine lv_pop hx hb dX0_areOrdered_732 rfl ?_
      refine lv_iload hx hb dX0_areOrdered_733 (lv_at hl 2 rfl) ?_
      refine r_ifz_eq (tgt := 777) hx hb dX0_areOrdered_735 (by decide) (fun c843 => ?_) (fun c843 => ?_)
      · have h := it_neg h (by rw [c843]; decide)
        refine lv_iconst (v := 0) hx hb dX0_areOrdered_777 (by decide) ?_
        obtain rfl := Option.some.inj h
        rw [eQ]
        exact r_zret hx hb hr hlk hS (by decide) (Nat.le_of_ble_eq_true rfl) (Nat.le_of_ble_eq_true rfl) dX0_areOrdered_778 ⟨_, rfl, rfl, h_x0r0, h_x0r0r1, hF⟩
      · have h := it_pos h (by rw [c843])
        refine lv_aload_n hx hb dX0_areOrdered_738 rfl (lv_at hl 0 rfl) ?_
        refine r_get hx hb hts hown hS h_x0 rfl in_X0 0 (by decide) q936 rfl (v := .ref x0r0) rfl dX0_areOrdered_739 ?_
        refine lv_iconst (v := 5) hx hb dX0_areOrdered_742 (by decide) ?_
        refine lv_iconst (v := 3) hx hb dX0_areOrdered_743 (by decide) ?_
        refine lv_iconst (v := 0) hx hb dX0_areOrdered_744 (by decide) ?_
        obtain ⟨o844, eo844, h⟩ := bind_step h
        refine r_cz (r_runV (rest := []) (As := [.int 5, .int 3, .int 0]) hC 3 (m_X1_heightSame x0r0 x0r0r0 x0r0r1 x0r0r2  x0r0r0c o842.2.2 x0r0r2c x0r0f3 o842.2.1 x0r0f5 x0r0f6 5 3 0 o844 eo844) q1562 q1563 q1564 q46 q1565 (OA.recv hS h_x0r0.OA (C := RX1) rfl) hd_X1_heightSame rfl ⟨Nat.le_of_ble_eq_true rfl, Nat.le_of_ble_eq_true rfl⟩ hS ⟨h_x0r0, h_x0r0r0, h_x0r0r1, h_x0r0r2⟩ hl.1 rfl (Nat.le_of_ble_eq_true rfl) dX0_areOrdered_745 ⟨Nat.le_of_ble_eq_true rfl, Nat.le_of_ble_eq_true rfl⟩) hS (fun b H locs hp hS hz => ?_)
        obtain ⟨eb_, hO⟩ := hp
        rw [eb_]
        have h_x0 := h_x0.ext hO
        have h_x0r0 := h_x0r0.ext hO
        have h_x0r0r0 := h_x0r0r0.ext hO
        have h_x0r0r1 := h_x0r0r1.ext hO
        have h_x0r0r2 := h_x0r0r2.ext hO
        have hF := hF.trans (hO.mono (fun _ _ z => z.elim))
        refine r_ifz_eq (tgt := 777) hx hb dX0_areOrdered_748 (by decide) (fun c845 => ?_) (fun c845 => ?_)
        · have h := it_neg h (by rw [c845]; decide)
          refine lv_iconst (v := 0) hx hb dX0_areOrdered_777 (by decide) ?_
          obtain rfl := Option.some.inj h
          rw [eQ]
          exact r_zret hx hb hr hlk hS (by decide) (Nat.le_of_ble_eq_true rfl) (Nat.le_of_ble_eq_true rfl) dX0_areOrdered_778 ⟨_, rfl, rfl, h_x0r0, h_x0r0r1, hF⟩
        · have h := it_pos h (by rw [c845])
          refine lv_aload_n hx hb dX0_areOrdered_751 rfl (lv_at hl 0 rfl) ?_
          refine r_get hx hb hts hown hS h_x0 rfl in_X0 0 (by decide) q936 rfl (v := .ref x0r0) rfl dX0_areOrdered_752 ?_
          refine lv_bipush (v := 6) hx hb dX0_areOrdered_755 (by decide) ?_
          refine lv_iconst (v := 4) hx hb dX0_areOrdered_757 (by decide) ?_
          refine lv_iconst (v := 1) hx hb dX0_areOrdered_758 (by decide) ?_
          obtain ⟨o846, eo846, h⟩ := bind_step h
          refine r_cz (r_runV (rest := []) (As := [.int 6, .int 4, .int 1]) hC 3 (m_X1_heightSame x0r0 x0r0r0 x0r0r1 x0r0r2  x0r0r0c o842.2.2 x0r0r2c x0r0f3 o842.2.1 x0r0f5 x0r0f6 6 4 1 o846 eo846) q1562 q1563 q1564 q46 q1565 (OA.recv hS h_x0r0.OA (C := RX1) rfl) hd_X1_heightSame rfl ⟨Nat.le_of_ble_eq_true rfl, Nat.le_of_ble_eq_true rfl⟩ hS ⟨h_x0r0, h_x0r0r0, h_x0r0r1, h_x0r0r2⟩ hl.1 rfl (Nat.le_of_ble_eq_true rfl) dX0_areOrdered_759 ⟨Nat.le_of_ble_eq_true rfl, Nat.le_of_ble_eq_true rfl⟩) hS (fun b H locs hp hS hz => ?_)
          obtain ⟨eb_, hO⟩ := hp
          rw [eb_]
          have h_x0 := h_x0.ext hO
          have h_x0r0 := h_x0r0.ext hO
          have h_x0r0r0 := h_x0r0r0.ext hO
          have h_x0r0r1 := h_x0r0r1.ext hO
          have h_x0r0r2 := h_x0r0r2.ext hO
          have hF := hF.trans (hO.mono (fun _ _ z => z.elim))
          refine r_ifz_eq (tgt := 777) hx hb dX0_areOrdered_762 (by decide) (fun c847 => ?_) (fun c847 => ?_)
          · have h := it_neg h (by rw [c847]; decide)
            refine lv_iconst (v := 0) hx hb dX0_areOrdered_777 (by decide) ?_
            obtain rfl := Option.some.inj h
            rw [eQ]
            exact r_zret hx hb hr hlk hS (by decide) (Nat.le_of_ble_eq_true rfl) (Nat.le_of_ble_eq_true rfl) dX0_areOrdered_778 ⟨_, rfl, rfl, h_x0r0, h_x0r0r1, hF⟩
          · have h := it_pos h (by rw [c847])
            refine lv_aload_n hx hb dX0_areOrdered_765 rfl (lv_at hl 0 rfl) ?_
            refine lv_iload_n hx hb dX0_areOrdered_766 rfl (lv_at hl 1 rfl) ?_
            obtain ⟨o848, eo848, h⟩ := bind_step h
            refine r_cz (r_runV (rest := []) (As := [.int x1]) hC 1 (m_X0_isFilled x0 x0r0 x0r0r0 x0r0r1 x0r0r2  x0r0r0c o842.2.2 x0r0r2c x0r0f3 o842.2.1 x0r0f5 x0r0f6 x1 o848 eo848) q1755 q1757 qs37 q39 q1758 (OA.recv hS h_x0 (C := RX0) rfl) hd_X0_isFilled rfl ⟨Nat.le_of_ble_eq_true rfl, Nat.le_of_ble_eq_true rfl⟩ hS ⟨h_x0, h_x0r0, hB_h_x0r0, h_x0r0r0, h_x0r0r1, hB_h_x0r0r1, h_x0r0r2, ne_x0_x0r0, ne_x0_x0r0r1, ne_x0r0_x0r0r0, ne_x0r0_x0r0r1, ne_x0r0_x0r0r2, ne_x0r0r0_x0r0r1, ne_x0r0r1_x0r0r2⟩ hl.1 rfl (Nat.le_of_ble_eq_true rfl) dX0_areOrdered_767 ⟨Nat.le_of_ble_eq_true rfl, Nat.le_of_ble_eq_true rfl⟩) hS (fun b H locs hp hS hz => ?_)
            obtain ⟨rfl, h_x0r0, h_x0r0r1, hO⟩ := hp
            have h_x0 := h_x0.off hO (fun z => by rcases z with z | z <;> first | exact ne_x0_x0r0 z | exact ne_x0_x0r0r1 z)
            have h_x0r0r0 := h_x0r0r0.off hO (fun z => by rcases z with z | z <;> first | exact (Ne.symm ne_x0r0_x0r0r0) z | exact ne_x0r0r0_x0r0r1 z)
            have h_x0r0r2 := h_x0r0r2.off hO (fun z => by rcases z with z | z <;> first | exact (Ne.symm ne_x0r0_x0r0r2) z | exact (Ne.symm ne_x0r0r1_x0r0r2) z)
            have hF := hF.fresh hO (fun a ha z => by
              rcases z with z | z
              · exact Or.inl z
              · exact Or.inr (z))
            refine r_ifz_eq (tgt := 777) hx hb dX0_areOrdered_770 (by decide) (fun c849 => ?_) (fun c849 => ?_)
            · have h := it_neg h (by rw [c849]; decide)
              refine lv_iconst (v := 0) hx hb dX0_areOrdered_777 (by decide) ?_
              obtain rfl := Option.some.inj h
              rw [eQ]
              exact r_zret hx hb hr hlk hS (by decide) (Nat.le_of_ble_eq_true rfl) (Nat.le_of_ble_eq_true rfl) dX0_areOrdered_778 ⟨_, rfl, rfl, h_x0r0, h_x0r0r1, hF⟩
            · have h := it_pos h (by rw [c849])
              refine lv_iconst (v := 1) hx hb dX0_areOrdered_773 (by decide) ?_
              refine lv_goto (tgt := 778) hx hb dX0_areOrdered_774 (by decide) ?_
              obtain rfl := Option.some.inj h
              rw [eQ]
              exact r_zret hx hb hr hlk hS (by decide) (Nat.le_of_ble_eq_true rfl) (Nat.le_of_ble_eq_true rfl) dX0_areOrdered_778 ⟨_, rfl, rfl, h_x0r0, h_x0r0r1, hF⟩
    clear eK812
    obtain ⟨K852, eK852, h⟩ := lt_step h
    have HK852 : ∀ (f850 : Nat → UInt64) (v851 : Int32) (h : K852 f850 v851 = some r) (H : Heap) (locs : List Loc) (hS : St D s H locs) (hF : Off (fun a => a = x0r0 ∨ a = x0r0r1) s.heap H) (h_x0 : OA D 1 x0 [.ref x0r0] H) (h_x0r0 : ON D 0 x0r0 [.ref x0r0r0, .ref x0r0r1, .ref x0r0r2, .int x0r0f3, .int v851, .int x0r0f5, .int x0r0f6] H) (h_x0r0r0 : aD D x0r0r0 8 x0r0r0c H) (h_x0r0r1 : aD D x0r0r1 8 f850 H) (h_x0r0r2 : aZ D x0r0r2 8 x0r0r2c H) (ls : Array Slot) (hl : lv_has ls 15 [(0, .ref x0), (1, .int x1)]), W p l e R_X0_areOrdered s m A below meth c H locs 66071 525049 Q (F0 m 631 ls []) := by
      intro f850 v851 h H locs hS hF h_x0 h_x0r0 h_x0r0r0 h_x0r0r1 h_x0r0r2 ls hl
      subst eK852
      refine lv_iconst (v := 0) hx hb dX0_areOrdered_631 (by decide) ?_
      exact HK812 f850 v851 false h H locs hS hF h_x0 h_x0r0 h_x0r0r0 h_x0r0r1 h_x0r0r2 ls (lv_sub hl [0, 1] rfl)
    clear eK852
    refine r_ifz_eq (tgt := 631) hx hb dX0_areOrdered_579 (by decide) (fun c853 => ?_) (fun c853 => ?_)
    · have h := it_neg h (by rw [c853]; decide)
      exact HK852 f772 v773 h H locs hS hF h_x0 h_x0r0 h_x0r0r0 h_x0r0r1 h_x0r0r2 ls (lv_sub hl [0, 1] rfl)
    · have h := it_pos h (by rw [c853])
      refine lv_lload_n hx hb dX0_areOrdered_582 rfl (lv_at hl 2 rfl) ?_
      refine lv_lload hx hb dX0_areOrdered_583 (lv_at hl 3 rfl) ?_
      obtain ⟨v854, ev854, h⟩ := lti_step h
      refine r_lcmp hx hb ev854 dX0_areOrdered_585 ?_
      refine lv_if_ne (tgt := 631) hx hb dX0_areOrdered_586 (by decide) (fun c855 => ?_) (fun c855 => ?_)
      · have h := it_neg h c855
        exact HK852 f772 v773 h H locs hS hF h_x0 h_x0r0 h_x0r0r0 h_x0r0r1 h_x0r0r2 ls (lv_sub hl [0, 1] rfl)
      · have h := it_pos h c855
        refine lv_aload_n hx hb dX0_areOrdered_589 rfl (lv_at hl 0 rfl) ?_
        refine r_get hx hb hts hown hS h_x0 rfl in_X0 0 (by decide) q936 rfl (v := .ref x0r0) rfl dX0_areOrdered_590 ?_
        refine lv_iload_n hx hb dX0_areOrdered_593 rfl (lv_at hl 1 rfl) ?_
        refine lv_bipush (v := 8) hx hb dX0_areOrdered_594 (by decide) ?_
        obtain ⟨o856, eo856, h⟩ := bind_step h
        refine r_cp (r_runS (rest := [.ref x0r0]) (As := [.int x1, .int 8]) hC 2 (m_X0_some   x1 8 o856 eo856) q1244 q1245 q39 q1246 hd_X0_some rfl ⟨Nat.le_of_ble_eq_true rfl, Nat.le_of_ble_eq_true rfl⟩ hS trivial hl.1 rfl (Nat.le_of_ble_eq_true rfl) dX0_areOrdered_596 ⟨Nat.le_of_ble_eq_true rfl, Nat.le_of_ble_eq_true rfl⟩) ?_
        refine lv_iconst (v := 0) hx hb dX0_areOrdered_599 (by decide) ?_
        refine lv_iconst (v := 0) hx hb dX0_areOrdered_600 (by decide) ?_
        obtain ⟨o857, eo857, h⟩ := bind_step h
        refine r_ci (r_runV (rest := []) (As := [.int o856, .int 0, .int 0]) hC 3 (m_X1_heightMin x0r0 x0r0r0 x0r0r1 x0r0r2  x0r0r0c f772 x0r0r2c x0r0f3 v773 x0r0f5 x0r0f6 o856 0 0 o857 eo857) q1741 q1742 q1743 q46 q1744 (OA.recv hS h_x0r0.OA (C := RX1) rfl) hd_X1_heightMin rfl ⟨Nat.le_of_ble_eq_true rfl, Nat.le_of_ble_eq_true rfl⟩ hS ⟨h_x0r0, hB_h_x0r0, h_x0r0r0, h_x0r0r1, hB_h_x0r0r1, h_x0r0r2, ne_x0r0_x0r0r0, ne_x0r0_x0r0r1, ne_x0r0_x0r0r2, ne_x0r0r0_x0r0r1, ne_x0r0r1_x0r0r2⟩ hl.1 rfl (Nat.le_of_ble_eq_true rfl) dX0_areOrdered_601 ⟨Nat.le_of_ble_eq_true rfl, Nat.le_of_ble_eq_true rfl⟩) hS (fun b H locs hp hS hz => ?_)
        obtain ⟨rfl, h_x0r0, h_x0r0r1, hO⟩ := hp
        have h_x0 := h_x0.off hO (fun z => by rcases z with z | z <;> first | exact ne_x0_x0r0 z | exact ne_x0_x0r0r1 z)
        have h_x0r0r0 := h_x0r0r0.off hO (fun z => by rcases z with z | z <;> first | exact (Ne.symm ne_x0r0_x0r0r0) z | exact ne_x0r0r0_x0r0r1 z)
        have h_x0r0r2 := h_x0r0r2.off hO (fun z => by rcases z with z | z <;> first | exact (Ne.symm ne_x0r0_x0r0r2) z | exact (Ne.symm ne_x0r0r1_x0r0r2) z)
        have hF := hF.fresh hO (fun a ha z => by
          rcases z with z | z
          · exact Or.inl z
          · exact Or.inr (z))
        refine lv_if_ne (tgt := 631) hx hb dX0_areOrdered_604 (by decide) (fun c858 => ?_) (fun c858 => ?_)
        · have h := it_neg h c858
          exact HK852 o857.2.2 o857.2.1 h H locs hS hF h_x0 h_x0r0 h_x0r0r0 h_x0r0r1 h_x0r0r2 ls (lv_sub hl [0, 1] rfl)
        · have h := it_pos h c858
          refine lv_aload_n hx hb dX0_areOrdered_607 rfl (lv_at hl 0 rfl) ?_
          refine r_get hx hb hts hown hS h_x0 rfl in_X0 0 (by decide) q936 rfl (v := .ref x0r0) rfl dX0_areOrdered_608 ?_
          refine lv_iload_n hx hb dX0_areOrdered_611 rfl (lv_at hl 1 rfl) ?_
          refine lv_bipush (v := 8) hx hb dX0_areOrdered_612 (by decide) ?_
          obtain ⟨o859, eo859, h⟩ := bind_step h
          refine r_cp (r_runS (rest := [.ref x0r0]) (As := [.int x1, .int 8]) hC 2 (m_X0_some   x1 8 o859 eo859) q1244 q1245 q39 q1246 hd_X0_some rfl ⟨Nat.le_of_ble_eq_true rfl, Nat.le_of_ble_eq_true rfl⟩ hS trivial hl.1 rfl (Nat.le_of_ble_eq_true rfl) dX0_areOrdered_614 ⟨Nat.le_of_ble_eq_true rfl, Nat.le_of_ble_eq_true rfl⟩) ?_
          refine lv_bipush (v := 7) hx hb dX0_areOrdered_617 (by decide) ?_
          refine lv_bipush (v := 7) hx hb dX0_areOrdered_619 (by decide) ?_
          obtain ⟨o860, eo860, h⟩ := bind_step h
          refine r_ci (r_runV (rest := []) (As := [.int o859, .int 7, .int 7]) hC 3 (m_X1_heightMax x0r0 x0r0r0 x0r0r1 x0r0r2  x0r0r0c o857.2.2 x0r0r2c x0r0f3 o857.2.1 x0r0f5 x0r0f6 o859 7 7 o860 eo860) q1712 q1713 q1714 q46 q1715 (OA.recv hS h_x0r0.OA (C := RX1) rfl) hd_X1_heightMax rfl ⟨Nat.le_of_ble_eq_true rfl, Nat.le_of_ble_eq_true rfl⟩ hS ⟨h_x0r0, hB_h_x0r0, h_x0r0r0, h_x0r0r1, hB_h_x0r0r1, h_x0r0r2, ne_x0r0_x0r0r0, ne_x0r0_x0r0r1, ne_x0r0_x0r0r2, ne_x0r0r0_x0r0r1, ne_x0r0r1_x0r0r2⟩ hl.1 rfl (Nat.le_of_ble_eq_true rfl) dX0_areOrdered_621 ⟨Nat.le_of_ble_eq_true rfl, Nat.le_of_ble_eq_true rfl⟩) hS (fun b H locs hp hS hz => ?_)
          obtain ⟨rfl, h_x0r0, h_x0r0r1, hO⟩ := hp
          have h_x0 := h_x0.off hO (fun z => by rcases z with z | z <;> first | exact ne_x0_x0r0 z | exact ne_x0_x0r0r1 z)
          have h_x0r0r0 := h_x0r0r0.off hO (fun z => by rcases z with z | z <;> first | exact (Ne.symm ne_x0r0_x0r0r0) z | exact ne_x0r0r0_x0r0r1 z)
          have h_x0r0r2 := h_x0r0r2.off hO (fun z => by rcases z with z | z <;> first | exact (Ne.symm ne_x0r0_x0r0r2) z | exact (Ne.symm ne_x0r0r1_x0r0r2) z)
          have hF := hF.fresh hO (fun a ha z => by
            rcases z with z | z
            · exact Or.inl z
            · exact Or.inr (z))
          refine lv_if_ne (tgt := 631) hx hb dX0_areOrdered_624 (by decide) (fun c861 => ?_) (fun c861 => ?_)
          · have h := it_neg h c861
            exact HK852 o860.2.2 o860.2.1 h H locs hS hF h_x0 h_x0r0 h_x0r0r0 h_x0r0r1 h_x0r0r2 ls (lv_sub hl [0, 1] rfl)
          · have h := it_pos h c861
            refine lv_iconst (v := 1) hx hb dX0_areOrdered_627 (by decide) ?_
            refine lv_goto (tgt := 632) hx hb dX0_areOrdered_628 (by decide) ?_
            exact HK812 o860.2.2 o860.2.1 true h H locs hS hF h_x0 h_x0r0 h_x0r0r0 h_x0r0r1 h_x0r0r2 ls (lv_sub hl [0, 1] rfl)
  clear eK775
  obtain ⟨K864, eK864, h⟩ := lt_step h
  have HK864 : ∀ (f862 : Nat → UInt64) (v863 : Int32) (h : K864 f862 v863 = some r) (H : Heap) (locs : List Loc) (hS : St D s H locs) (hF : Off (fun a => a = x0r0 ∨ a = x0r0r1) s.heap H) (h_x0 : OA D 1 x0 [.ref x0r0] H) (h_x0r0 : ON D 0 x0r0 [.ref x0r0r0, .ref x0r0r1, .ref x0r0r2, .int x0r0f3, .int v863, .int x0r0f5, .int x0r0f6] H) (h_x0r0r0 : aD D x0r0r0 8 x0r0r0c H) (h_x0r0r1 : aD D x0r0r1 8 f862 H) (h_x0r0r2 : aZ D x0r0r2 8 x0r0r2c H) (ls : Array Slot) (hl : lv_has ls 15 [(0, .ref x0), (1, .int x1), (2, .long w357.1), (4, .long 0)]), W p l e R_X0_areOrdered s m A below meth c H locs 65360 519487 Q (F0 m 513 ls []) := by
    intro f862 v863 h H locs hS hF h_x0 h_x0r0 h_x0r0r0 h_x0r0r1 h_x0r0r2 ls hl
    subst eK864
    refine lv_iconst (v := 0) hx hb dX0_areOrdered_513 (by decide) ?_
    exact HK775 f862 v863 false h H locs hS hF h_x0 h_x0r0 h_x0r0r0 h_x0r0r1 h_x0r0r2 ls (lv_sub hl [0, 1, 2, 3] rfl)
  clear eK864
  refine r_ifz_eq (tgt := 513) hx hb dX0_areOrdered_486 (by decide) (fun c865 => ?_) (fun c865 => ?_)
  · have h := it_neg h (by rw [c865]; decide)
    refine W.widen (k := 65360) (n := 519487) (Nat.le_of_ble_eq_true rfl) (Nat.le_of_ble_eq_true rfl) ?_
    exact HK864 w15.1 w15.2 h H locs hS hF h_x0 h_x0r0 h_x0r0r0 h_x0r0r1 h_x0r0r2 ls (lv_sub hl [0, 1, 2, 3] rfl)
  · have h := it_pos h (by rw [c865])
    refine lv_aload_n hx hb dX0_areOrdered_489 rfl (lv_at hl 0 rfl) ?_
    refine r_get hx hb hts hown hS h_x0 rfl in_X0 0 (by decide) q936 rfl (v := .ref x0r0) rfl dX0_areOrdered_490 ?_
    obtain ⟨o866, eo866, h⟩ := bind_step h
    refine r_ci (r_runV (rest := []) (As := []) hC 0 (m_X1_heightSort x0r0 x0r0r0 x0r0r1 x0r0r2  x0r0r0c w15.1 x0r0r2c x0r0f3 w15.2 x0r0f5 x0r0f6 o866 eo866) q1737 q1738 q1739 q46 q1740 (OA.recv hS h_x0r0.OA (C := RX1) rfl) hd_X1_heightSort rfl ⟨Nat.le_of_ble_eq_true rfl, Nat.le_of_ble_eq_true rfl⟩ hS ⟨h_x0r0, hB_h_x0r0, h_x0r0r0, h_x0r0r1, hB_h_x0r0r1, h_x0r0r2, ne_x0r0_x0r0r0, ne_x0r0_x0r0r1, ne_x0r0_x0r0r2, ne_x0r0r0_x0r0r1, ne_x0r0r1_x0r0r2⟩ hl.1 rfl (Nat.le_of_ble_eq_true rfl) dX0_areOrdered_493 ⟨Nat.le_of_ble_eq_true rfl, Nat.le_of_ble_eq_true rfl⟩) hS (fun b H locs hp hS hz => ?_)
    obtain ⟨rfl, h_x0r0, h_x0r0r1, hO⟩ := hp
    have h_x0 := h_x0.off hO (fun z => by rcases z with z | z <;> first | exact ne_x0_x0r0 z | exact ne_x0_x0r0r1 z)
    have h_x0r0r0 := h_x0r0r0.off hO (fun z => by rcases z with z | z <;> first | exact (Ne.symm ne_x0r0_x0r0r0) z | exact ne_x0r0r0_x0r0r1 z)
    have h_x0r0r2 := h_x0r0r2.off hO (fun z => by rcases z with z | z <;> first | exact (Ne.symm ne_x0r0_x0r0r2) z | exact (Ne.symm ne_x0r0r1_x0r0r2) z)
    have hF := hF.fresh hO (fun a ha z => by
      rcases z with z | z
      · exact Or.inl z
      · exact Or.inr (z))
    refine lv_if_lt (tgt := 513) hx hb dX0_areOrdered_496 (by decide) (fun c867 => ?_) (fun c867 => ?_)
    · have h := it_pos h c867
      refine W.widen (k := 65360) (n := 519487) (Nat.le_of_ble_eq_true rfl) (Nat.le_of_ble_eq_true rfl) ?_
      exact HK864 o866.2.2 o866.2.1 h H locs hS hF h_x0 h_x0r0 h_x0r0r0 h_x0r0r1 h_x0r0r2 ls (lv_sub hl [0, 1, 2, 3] rfl)
    · have h := it_neg h c867
      refine lv_aload_n hx hb dX0_areOrdered_499 rfl (lv_at hl 0 rfl) ?_
      refine r_get hx hb hts hown hS h_x0 rfl in_X0 0 (by decide) q936 rfl (v := .ref x0r0) rfl dX0_areOrdered_500 ?_
      obtain ⟨o868, eo868, h⟩ := bind_step h
      refine r_ci (r_runV (rest := []) (As := []) hC 0 (m_X1_heightSort x0r0 x0r0r0 x0r0r1 x0r0r2  x0r0r0c o866.2.2 x0r0r2c x0r0f3 o866.2.1 x0r0f5 x0r0f6 o868 eo868) q1737 q1738 q1739 q46 q1740 (OA.recv hS h_x0r0.OA (C := RX1) rfl) hd_X1_heightSort rfl ⟨Nat.le_of_ble_eq_true rfl, Nat.le_of_ble_eq_true rfl⟩ hS ⟨h_x0r0, hB_h_x0r0, h_x0r0r0, h_x0r0r1, hB_h_x0r0r1, h_x0r0r2, ne_x0r0_x0r0r0, ne_x0r0_x0r0r1, ne_x0r0_x0r0r2, ne_x0r0r0_x0r0r1, ne_x0r0r1_x0r0r2⟩ hl.1 rfl (Nat.le_of_ble_eq_true rfl) dX0_areOrdered_503 ⟨Nat.le_of_ble_eq_true rfl, Nat.le_of_ble_eq_true rfl⟩) hS (fun b H locs hp hS hz => ?_)
      obtain ⟨rfl, h_x0r0, h_x0r0r1, hO⟩ := hp
      have h_x0 := h_x0.off hO (fun z => by rcases z with z | z <;> first | exact ne_x0_x0r0 z | exact ne_x0_x0r0r1 z)
      have h_x0r0r0 := h_x0r0r0.off hO (fun z => by rcases z with z | z <;> first | exact (Ne.symm ne_x0r0_x0r0r0) z | exact ne_x0r0r0_x0r0r1 z)
      have h_x0r0r2 := h_x0r0r2.off hO (fun z => by rcases z with z | z <;> first | exact (Ne.symm ne_x0r0_x0r0r2) z | exact (Ne.symm ne_x0r0r1_x0r0r2) z)
      have hF := hF.fresh hO (fun a ha z => by
        rcases z with z | z
        · exact Or.inl z
        · exact Or.inr (z))
      refine lv_if_ne (tgt := 513) hx hb dX0_areOrdered_506 (by decide) (fun c869 => ?_) (fun c869 => ?_)
      · have h := it_neg h c869
        exact HK864 o868.2.2 o868.2.1 h H locs hS hF h_x0 h_x0r0 h_x0r0r0 h_x0r0r1 h_x0r0r2 ls (lv_sub hl [0, 1, 2, 3] rfl)
      · have h := it_pos h c869
        refine lv_iconst (v := 1) hx hb dX0_areOrdered_509 (by decide) ?_
        refine lv_goto (tgt := 514) hx hb dX0_areOrdered_510 (by decide) ?_
        exact HK775 o868.2.2 o868.2.1 true h H locs hS hF h_x0 h_x0r0 h_x0r0r0 h_x0r0r1 h_x0r0r2 ls (lv_sub hl [0, 1, 2, 3] rfl)

abbrev R_X0_isSummed : Room := { frames := 13, cells := 2896, slots := 20756, locals := 1505 }
noncomputable def f_X0_isSummed (x0r0r0c : Nat → UInt64) (x0r0r1c : Nat → UInt64) (x0r0r2c : Nat → Int32) (x0r0f3 : Int32) (x0r0f4 : Int32) (x0r0f5 : Int32) (x0r0f6 : Int32) : Option (Bool × Int32) :=
  Option.bind (f_X1_digest x0r0r0c x0r0r1c x0r0r2c x0r0f3 x0r0f4 x0r0f5 x0r0f6) fun o1 =>
  lt (fun (v2 : Int64) (v3 : Int32) =>
  (show Option (Sum (Int64 × Int32) (Int64)) from (
  (if 8 ≤ v3 then
    some (.inr v2)
  else
    Option.bind (f_X1_angleUpper x0r0r0c x0r0r1c x0r0r2c x0r0f3 x0r0f4 x0r0f5 x0r0f6 v3) fun o23 =>
    ltl (o23.toInt64) fun v24 =>
    Option.bind (f_X0_sum v2 v24) fun o25 =>
    Option.bind (f_X1_angleFind x0r0r0c x0r0r1c x0r0r2c x0r0f3 x0r0f4 x0r0f5 x0r0f6 v3 false) fun o26 =>
    ltl (o26.toInt64) fun v27 =>
    Option.bind (f_X0_sum o25 v27) fun o28 =>
    Option.bind (f_X1_angleFind x0r0r0c x0r0r1c x0r0r2c x0r0f3 x0r0f4 x0r0f5 x0r0f6 v3 true) fun o29 =>
    ltl (o29.toInt64) fun v30 =>
    Option.bind (f_X0_sum o28 v30) fun o31 =>
    Option.bind (f_X1_quarter x0r0r0c x0r0r1c x0r0r2c x0r0f3 x0r0f4 x0r0f5 x0r0f6 v3) fun o32 =>
    ltl (o32.toInt64) fun v33 =>
    Option.bind (f_X0_sum o31 v33) fun o34 =>
    lti (v3 + 1) fun v35 =>
    some (.inl (o34, v35))
  )
  ))
  ) fun F19 =>
  Option.bind (lp 9 (fun x => F19 x.1 x.2) (7675, 0)) fun w20 =>
  lt (fun (v36 : Int64) (v37 : Int32) =>
  (show Option (Sum (Int64 × Int32) (Int64)) from (
  (if 8 ≤ v37 then
    some (.inr v36)
  else
    Option.bind (f_X1_whole x0r0r0c x0r0r1c x0r0r2c x0r0f3 x0r0f4 x0r0f5 x0r0f6 v37) fun o60 =>
    ltl (o60.toInt64) fun v61 =>
    Option.bind (f_X0_sum v36 v61) fun o62 =>
    Option.bind (f_X1_steps x0r0r0c x0r0r1c x0r0r2c x0r0f3 x0r0f4 x0r0f5 x0r0f6 v37 30) fun o63 =>
    ltl (o63.toInt64) fun v64 =>
    Option.bind (f_X0_sum o62 v64) fun o65 =>
    Option.bind (f_X1_upper x0r0r0c x0r0r1c x0r0r2c x0r0f3 x0r0f4 x0r0f5 x0r0f6 v37) fun o66 =>
    ltl (o66.toInt64) fun v67 =>
    Option.bind (f_X0_sum o65 v67) fun o68 =>
    Option.bind (f_X1_heightFind x0r0r0c x0r0r1c x0r0r2c x0r0f3 x0r0f4 x0r0f5 x0r0f6 v37 false) fun o69 =>
    ltl (o69.toInt64) fun v70 =>
    Option.bind (f_X0_sum o68 v70) fun o71 =>
    Option.bind (f_X1_heightFind x0r0r0c x0r0r1c x0r0r2c x0r0f3 x0r0f4 x0r0f5 x0r0f6 v37 true) fun o72 =>
    ltl (o72.toInt64) fun v73 =>
    Option.bind (f_X0_sum o71 v73) fun o74 =>
    lti (v37 + 1) fun v75 =>
    some (.inl (o74, v75))
  )
  ))
  ) fun F56 =>
  Option.bind (lp 9 (fun x => F56 x.1 x.2) (w20, 0)) fun w57 =>
  lt (fun (v76 : Int64) (v77 : Int32) =>
  (show Option (Sum (Int64 × Int32) (Int64)) from (
  (if 8 ≤ v77 then
    some (.inr v76)
  else
    lti (v77 + 1) fun v97 =>
    lt (fun (v98 : Int64) (v99 : Int32) =>
    (show Option (Sum (Int64 × Int32) (Int64)) from (
    (if 8 ≤ v99 then
      some (.inr v98)
    else
      Option.bind (f_X1_heightOrder x0r0r0c x0r0r1c x0r0r2c x0r0f3 x0r0f4 x0r0f5 x0r0f6 v77 v99 0) fun o113 =>
      ltl (o113.toInt64) fun v114 =>
      Option.bind (f_X0_sum v98 v114) fun o115 =>
      Option.bind (f_X1_sizeOrder x0r0r0c x0r0r1c x0r0r2c x0r0f3 x0r0f4 x0r0f5 x0r0f6 v77 v99) fun o116 =>
      ltl (o116.toInt64) fun v117 =>
      Option.bind (f_X0_sum o115 v117) fun o118 =>
      lti (v99 + 1) fun v119 =>
      some (.inl (o118, v119))
    )
    ))
    ) fun F109 =>
    Option.bind (lp 9 (fun x => F109 x.1 x.2) (v76, v97)) fun w110 =>
    lti (v77 + 1) fun v120 =>
    some (.inl (w110, v120))
  )
  ))
  ) fun F93 =>
  Option.bind (lp 9 (fun x => F93 x.1 x.2) (w57, 0)) fun w94 =>
  lt (fun (v121 : Int64) (v122 : Int32) =>
  (show Option (Sum (Int64 × Int32) (Int64)) from (
  (if 4 ≤ v122 then
    some (.inr v121)
  else
    Option.bind (f_X1_house x0r0r0c x0r0r1c x0r0r2c x0r0f3 x0r0f4 x0r0f5 x0r0f6 v122) fun o133 =>
    ltl (o133.toInt64) fun v134 =>
    Option.bind (f_X0_sum v121 v134) fun o135 =>
    lti (v122 + 1) fun v136 =>
    some (.inl (o135, v136))
  )
  ))
  ) fun F129 =>
  Option.bind (lp 9 (fun x => F129 x.1 x.2) (w94, 0)) fun w130 =>
  Option.bind (f_X1_house x0r0r0c x0r0r1c x0r0r2c x0r0f3 x0r0f4 x0r0f5 x0r0f6 3) fun o137 =>
  Option.bind (f_X1_isSound x0r0r0c x0r0r1c x0r0r2c x0r0f3 x0r0f4 x0r0f5 x0r0f6) fun o138 =>
  (if o138 = true then
    Option.bind (f_X0_sum w130 1) fun o140 =>
    lti (lg_cmp o1 o140) fun v141 =>
    (if v141 = 0 then
      Option.bind (f_X1_digest x0r0r0c x0r0r1c x0r0r2c x0r0f3 x0r0f4 x0r0f5 x0r0f6) fun o143 =>
      lti (lg_cmp o143 o1) fun v144 =>
      (if v144 = 0 then
        Option.bind (f_X1_knock x0r0r0c x0r0r1c x0r0r2c x0r0f3 x0r0f4 x0r0f5 x0r0f6) fun o146 =>
        lti (o137 + 1) fun v147 =>
        (if o146.1 = v147 then
          Option.bind (f_X1_house x0r0r0c x0r0r1c x0r0r2c x0r0f3 x0r0f4 x0r0f5 o146.2 3) fun o149 =>
          lti (o137 + 1) fun v150 =>
          (if o149 = v150 then
            Option.bind (f_X1_digest x0r0r0c x0r0r1c x0r0r2c x0r0f3 x0r0f4 x0r0f5 o146.2) fun o152 =>
            ltl ((o1 + 31 : Int64)) fun v153 =>
            lti (lg_cmp o152 v153) fun v154 =>
            (if v154 = 0 then
              some (true, o146.2)
            else
              some (false, o146.2)
            )
          else
            some (false, o146.2)
          )
        else
          some (false, o146.2)
        )
      else
        some (false, x0r0f6)
      )
    else
      some (false, x0r0f6)
    )
  else
    some (false, x0r0f6)
  )
theorem hd_X0_isSummed : Hd yX0_isSummed 0 := by unfold Hd; decide +kernel
set_option maxHeartbeats 4000000 in
set_option maxRecDepth 100000 in
theorem m_X0_isSummed {l : Launch} {D : DD} (x0 : Nat) (x0r0 : Nat) (x0r0r0 : Nat) (x0r0r1 : Nat) (x0r0r2 : Nat)  (x0r0r0c : Nat → UInt64) (x0r0r1c : Nat → UInt64) (x0r0r2c : Nat → Int32) (x0r0f3 : Int32) (x0r0f4 : Int32) (x0r0f5 : Int32) (x0r0f6 : Int32) (r : Bool × Int32) (h : f_X0_isSummed x0r0r0c x0r0r1c x0r0r2c x0r0f3 x0r0f4 x0r0f5 x0r0f6 = some r) : MT l D yX0_isSummed cX0_isSummed 7 (some .boolean) 13 1505 2896 20756 [.ref x0] (fun H => OA D 1 x0 [.ref x0r0] H ∧ ON D 0 x0r0 [.ref x0r0r0, .ref x0r0r1, .ref x0r0r2, .int x0r0f3, .int x0r0f4, .int x0r0f5, .int x0r0f6] H ∧ dB D ≤ x0r0 ∧ aD D x0r0r0 8 x0r0r0c H ∧ aD D x0r0r1 8 x0r0r1c H ∧ aZ D x0r0r2 8 x0r0r2c H ∧ x0 ≠ x0r0 ∧ x0r0 ≠ x0r0r0 ∧ x0r0 ≠ x0r0r1 ∧ x0r0 ≠ x0r0r2) (pZ (fun H b H' => b = r.1 ∧ ON D 0 x0r0 [.ref x0r0r0, .ref x0r0r1, .ref x0r0r2, .int x0r0f3, .int x0r0f4, .int x0r0f5, .int r.2] H' ∧ Off (fun a => a = x0r0) H H')) := by
  refine MT.start (by decide +kernel) (Nat.le_of_ble_eq_true rfl) ?_
  intro p e s m below meth c ls hC hS hp hl
  obtain ⟨h_x0, h_x0r0, hB_h_x0r0, h_x0r0r0, h_x0r0r1, h_x0r0r2, ne_x0_x0r0, ne_x0r0_x0r0r0, ne_x0r0_x0r0r1, ne_x0r0_x0r0r2⟩ := hp
  obtain ⟨hx, hb, hr, hlk, hml, hown, hts, hnm⟩ := id hC
  have hl : lv_has ls 7 [(0, .ref x0)] := hl
  unfold f_X0_isSummed at h
  have hS0 := hS
  obtain ⟨A, eA⟩ : ∃ A : Array Value, A = [.ref x0].toArray := ⟨_, rfl⟩
  rw [← eA] at hC hts ⊢
  obtain ⟨Q, eQ⟩ : ∃ Q : State → Prop, Q = MQ below (TQ D (pZ (fun H b H' => b = r.1 ∧ ON D 0 x0r0 [.ref x0r0r0, .ref x0r0r1, .ref x0r0r2, .int x0r0f3, .int x0r0f4, .int x0r0f5, .int r.2] H' ∧ Off (fun a => a = x0r0) H H'))) A s 2896 20756 (fun q => dB D ≤ q) := ⟨_, rfl⟩
  have hF : Off (fun a => a = x0r0) s.heap s.heap := Off.rf
  show W p l e R_X0_isSummed s m A below meth c s.heap [] 0 0 _ _
  rw [← eQ]
  obtain ⟨H, eH⟩ : ∃ H : Heap, H = s.heap := ⟨_, rfl⟩
  obtain ⟨locs, eLc⟩ : ∃ L : List Loc, L = [] := ⟨_, rfl⟩
  have lt_h_x0 := h_x0.lt
  have lt_h_x0r0 := h_x0r0.lt
  have lt_h_x0r0r0 := h_x0r0r0.lt
  have lt_h_x0r0r1 := h_x0r0r1.lt
  have lt_h_x0r0r2 := h_x0r0r2.lt
  rw [← eH, ← eLc]
  have hF : Off (fun a => a = x0r0) s.heap H := by rw [eH]; exact hF
  rw [← eH] at h_x0
  rw [← eH] at h_x0r0
  rw [← eH] at h_x0r0r0
  rw [← eH] at h_x0r0r1
  rw [← eH] at h_x0r0r2
  have hS : St D s H locs := by rw [eH, eLc]; exact hS
  refine lv_ldc2 hx hb (v := 7675) hown (hts _ q1763) dX0_isSummed_0 ?_
  refine lv_lstore_n (lv' := [(1, .long 7675), (0, .ref x0)]) hx hb dX0_isSummed_3 rfl hl (by decide) rfl (fun ls hl => ?_)
  refine lv_aload_n hx hb dX0_isSummed_4 rfl (lv_at hl 1 rfl) ?_
  refine r_get hx hb hts hown hS h_x0 rfl in_X0 0 (by decide) q936 rfl (v := .ref x0r0) rfl dX0_isSummed_5 ?_
  obtain ⟨o1, eo1, h⟩ := bind_step h
  refine r_cl (r_runV (rest := []) (As := []) hC 0 (m_X1_digest x0r0 x0r0r0 x0r0r1 x0r0r2  x0r0r0c x0r0r1c x0r0r2c x0r0f3 x0r0f4 x0r0f5 x0r0f6 o1 eo1) q1256 q1257 q1258 q46 q1259 (OA.recv hS h_x0r0.OA (C := RX1) rfl) hd_X1_digest rfl ⟨Nat.le_of_ble_eq_true rfl, Nat.le_of_ble_eq_true rfl⟩ hS ⟨h_x0r0, h_x0r0r0, h_x0r0r1, h_x0r0r2⟩ hl.1 rfl (Nat.le_of_ble_eq_true rfl) dX0_isSummed_8 ⟨Nat.le_of_ble_eq_true rfl, Nat.le_of_ble_eq_true rfl⟩) hS (fun b H locs hp hS hz => ?_)
  obtain ⟨eb_, hO⟩ := hp
  rw [eb_]
  have h_x0 := h_x0.ext hO
  have h_x0r0 := h_x0r0.ext hO
  have h_x0r0r0 := h_x0r0r0.ext hO
  have h_x0r0r1 := h_x0r0r1.ext hO
  have h_x0r0r2 := h_x0r0r2.ext hO
  have hF := hF.trans (hO.mono (fun _ _ z => z.elim))
  refine lv_lstore_n (lv' := [(3, .long o1), (1, .long 7675), (0, .ref x0)]) hx hb dX0_isSummed_11 rfl hl (by decide) rfl (fun ls hl => ?_)
  refine lv_iconst (v := 0) hx hb dX0_isSummed_12 (by decide) ?_
  refine lv_istore (lv' := [(5, .int 0), (3, .long o1), (1, .long 7675), (0, .ref x0)]) hx hb dX0_isSummed_13 hl (by decide) rfl (fun ls hl => ?_)
  obtain ⟨F19, eF19, h⟩ := lt_step h
  obtain ⟨w20, ew20, h⟩ := bind_step h
  obtain ⟨CE, eCE⟩ : ∃ x : Nat, x = 724 + 108 := ⟨_, rfl⟩
  obtain ⟨SE, eSE⟩ : ∃ x : Nat, x = 5189 + 1530 := ⟨_, rfl⟩
  have hCE : CE ≤ R_X0_isSummed.cells := (by rw [eCE]; exact Nat.le_of_ble_eq_true rfl)
  have hSE : SE ≤ R_X0_isSummed.slots := (by rw [eSE]; exact Nat.le_of_ble_eq_true rfl)
  have HL : ∀ (n : Nat) (v2 : Int64) (v3 : Int32) (w20 : Int64) (hk0 : lp n (fun x => F19 x.1 x.2) (v2, v3) = some w20) (cl : Nat) (sl : Nat) (hcl : cl + 12 * n ≤ CE) (hsl : sl + 170 * n ≤ SE) (H : Heap) (locs : List Loc) (hS : St D s H locs) (hF : Off (fun a => a = x0r0) s.heap H) (h_x0 : OA D 1 x0 [.ref x0r0] H) (h_x0r0 : ON D 0 x0r0 [.ref x0r0r0, .ref x0r0r1, .ref x0r0r2, .int x0r0f3, .int x0r0f4, .int x0r0f5, .int x0r0f6] H) (h_x0r0r0 : aD D x0r0r0 8 x0r0r0c H) (h_x0r0r1 : aD D x0r0r1 8 x0r0r1c H) (h_x0r0r2 : aZ D x0r0r2 8 x0r0r2c H) (ls : Array Slot) (hl : lv_has ls 7 [(0, .ref x0), (1, .long v2), (3, .long o1), (5, .int v3)]) (K84 : ∀ (H : Heap) (locs : List Loc) (hS : St D s H locs) (hF : Off (fun a => a = x0r0) s.heap H) (h_x0 : OA D 1 x0 [.ref x0r0] H) (h_x0r0 : ON D 0 x0r0 [.ref x0r0r0, .ref x0r0r1, .ref x0r0r2, .int x0r0f3, .int x0r0f4, .int x0r0f5, .int x0r0f6] H) (h_x0r0r0 : aD D x0r0r0 8 x0r0r0c H) (h_x0r0r1 : aD D x0r0r1 8 x0r0r1c H) (h_x0r0r2 : aZ D x0r0r2 8 x0r0r2c H) (ls : Array Slot) (hl : lv_has ls 7 [(0, .ref x0), (1, .long w20), (3, .long o1)]), W p l e R_X0_isSummed s m A below meth c H locs CE SE Q (F0 m 84 ls [])), W p l e R_X0_isSummed s m A below meth c H locs cl sl Q (F0 m 15 ls []) := by
    intro n
    induction n with
    | zero => intro v2 v3 w20 hk0 cl sl hcl hsl H locs hS hF h_x0 h_x0r0 h_x0r0r0 h_x0r0r1 h_x0r0r2 ls hl K84; exact lp_zero hk0
    | succ n ih =>
      intro v2 v3 w20 hk0 cl sl hcl hsl H locs hS hF h_x0 h_x0r0 h_x0r0r0 h_x0r0r1 h_x0r0r2 ls hl K84
      obtain ⟨z21, hz, hk⟩ := lp_step hk0
      have h := (congrFun (congrFun (eF19) v2) v3).symm.trans hz
      have hcO : cl + 12 ≤ CE := al_out hcl
      have hcE : cl + 12 ≤ R_X0_isSummed.cells := Nat.le_trans hcO hCE
      have hcN : ∀ a, a ≤ 12 → cl + a + 12 * n ≤ CE := fun a ha => al_next hcl ha
      have hcN0 : cl + 12 * n ≤ CE := al_next hcl (Nat.zero_le _)
      have hsO : sl + 170 ≤ SE := al_out hsl
      have hsE : sl + 170 ≤ R_X0_isSummed.slots := Nat.le_trans hsO hSE
      have hsN : ∀ a, a ≤ 170 → sl + a + 170 * n ≤ SE := fun a ha => al_next hsl ha
      have hsN0 : sl + 170 * n ≤ SE := al_next hsl (Nat.zero_le _)
      clear hcl hsl
      refine lv_iload hx hb dX0_isSummed_15 (lv_at hl 3 rfl) ?_
      refine lv_bipush (v := 8) hx hb dX0_isSummed_17 (by decide) ?_
      refine lv_icmp_ge (tgt := 84) hx hb dX0_isSummed_19 (by decide) (fun c22 => ?_) (fun c22 => ?_)
      · have h := it_pos h c22
        obtain rfl := Option.some.inj h
        obtain rfl := id hk
        refine W.widen (k := CE) (n := SE) (by omega) (by omega) ?_
        exact K84 H locs hS hF h_x0 h_x0r0 h_x0r0r0 h_x0r0r1 h_x0r0r2 ls (lv_sub hl [0, 1, 2] rfl)
      · have h := it_neg h c22
        refine lv_lload_n hx hb dX0_isSummed_22 rfl (lv_at hl 1 rfl) ?_
        refine lv_aload_n hx hb dX0_isSummed_23 rfl (lv_at hl 0 rfl) ?_
        refine r_get hx hb hts hown hS h_x0 rfl in_X0 0 (by decide) q936 rfl (v := .ref x0r0) rfl dX0_isSummed_24 ?_
        refine lv_iload hx hb dX0_isSummed_27 (lv_at hl 3 rfl) ?_
        obtain ⟨o23, eo23, h⟩ := bind_step h
        refine r_cp (r_runV (rest := [.long v2]) (As := [.int v3]) hC 1 (m_X1_angleUpper x0r0 x0r0r0 x0r0r1 x0r0r2  x0r0r0c x0r0r1c x0r0r2c x0r0f3 x0r0f4 x0r0f5 x0r0f6 v3 o23 eo23) q1190 q1191 q1192 q46 q1193 (OA.recv hS h_x0r0.OA (C := RX1) rfl) hd_X1_angleUpper rfl ⟨Nat.le_of_ble_eq_true rfl, Nat.le_of_ble_eq_true rfl⟩ hS ⟨h_x0r0, h_x0r0r0, h_x0r0r1, h_x0r0r2⟩ hl.1 rfl (Nat.le_of_ble_eq_true rfl) dX0_isSummed_29 ⟨by have := hcE; have := hsE; omega, by have := hcE; have := hsE; omega⟩) ?_
        obtain ⟨v24, ev24, h⟩ := ltl_step h
        refine r_i2l hx hb ev24 dX0_isSummed_32 ?_
        obtain ⟨o25, eo25, h⟩ := bind_step h
        refine r_cp (r_runS (rest := []) (As := [.long v2, .long v24]) hC 2 (m_X0_sum   v2 v24 o25 eo25) q1764 q1765 q39 q1766 hd_X0_sum rfl ⟨Nat.le_of_ble_eq_true rfl, Nat.le_of_ble_eq_true rfl⟩ hS trivial hl.1 rfl (Nat.le_of_ble_eq_true rfl) dX0_isSummed_33 ⟨by have := hcE; have := hsE; omega, by have := hcE; have := hsE; omega⟩) ?_
        refine lv_aload_n hx hb dX0_isSummed_36 rfl (lv_at hl 0 rfl) ?_
        refine r_get hx hb hts hown hS h_x0 rfl in_X0 0 (by decide) q936 rfl (v := .ref x0r0) rfl dX0_isSummed_37 ?_
        refine lv_iload hx hb dX0_isSummed_40 (lv_at hl 3 rfl) ?_
        refine lv_iconst (v := 0) hx hb dX0_isSummed_42 (by decide) ?_
        obtain ⟨o26, eo26, h⟩ := bind_step h
        refine r_cp (r_runV (rest := [.long o25]) (As := [.int v3, .int 0]) hC 2 (m_X1_angleFind x0r0 x0r0r0 x0r0r1 x0r0r2  x0r0r0c x0r0r1c x0r0r2c x0r0f3 x0r0f4 x0r0f5 x0r0f6 v3 false o26 eo26) q1508 q1267 q1268 q46 q1269 (OA.recv hS h_x0r0.OA (C := RX1) rfl) hd_X1_angleFind rfl ⟨Nat.le_of_ble_eq_true rfl, Nat.le_of_ble_eq_true rfl⟩ hS ⟨h_x0r0, h_x0r0r0, h_x0r0r1, h_x0r0r2⟩ hl.1 rfl (Nat.le_of_ble_eq_true rfl) dX0_isSummed_43 ⟨by have := hcE; have := hsE; omega, by have := hcE; have := hsE; omega⟩) ?_
        obtain ⟨v27, ev27, h⟩ := ltl_step h
        refine r_i2l hx hb ev27 dX0_isSummed_46 ?_
        obtain ⟨o28, eo28, h⟩ := bind_step h
        refine r_cp (r_runS (rest := []) (As := [.long o25, .long v27]) hC 2 (m_X0_sum   o25 v27 o28 eo28) q1764 q1765 q39 q1766 hd_X0_sum rfl ⟨Nat.le_of_ble_eq_true rfl, Nat.le_of_ble_eq_true rfl⟩ hS trivial hl.1 rfl (Nat.le_of_ble_eq_true rfl) dX0_isSummed_47 ⟨by have := hcE; have := hsE; omega, by have := hcE; have := hsE; omega⟩) ?_
        refine lv_aload_n hx hb dX0_isSummed_50 rfl (lv_at hl 0 rfl) ?_
        refine r_get hx hb hts hown hS h_x0 rfl in_X0 0 (by decide) q936 rfl (v := .ref x0r0) rfl dX0_isSummed_51 ?_
        refine lv_iload hx hb dX0_isSummed_54 (lv_at hl 3 rfl) ?_
        refine lv_iconst (v := 1) hx hb dX0_isSummed_56 (by decide) ?_
        obtain ⟨o29, eo29, h⟩ := bind_step h
        refine r_cp (r_runV (rest := [.long o28]) (As := [.int v3, .int 1]) hC 2 (m_X1_angleFind x0r0 x0r0r0 x0r0r1 x0r0r2  x0r0r0c x0r0r1c x0r0r2c x0r0f3 x0r0f4 x0r0f5 x0r0f6 v3 true o29 eo29) q1508 q1267 q1268 q46 q1269 (OA.recv hS h_x0r0.OA (C := RX1) rfl) hd_X1_angleFind rfl ⟨Nat.le_of_ble_eq_true rfl, Nat.le_of_ble_eq_true rfl⟩ hS ⟨h_x0r0, h_x0r0r0, h_x0r0r1, h_x0r0r2⟩ hl.1 rfl (Nat.le_of_ble_eq_true rfl) dX0_isSummed_57 ⟨by have := hcE; have := hsE; omega, by have := hcE; have := hsE; omega⟩) ?_
        obtain ⟨v30, ev30, h⟩ := ltl_step h
        refine r_i2l hx hb ev30 dX0_isSummed_60 ?_
        obtain ⟨o31, eo31, h⟩ := bind_step h
        refine r_cp (r_runS (rest := []) (As := [.long o28, .long v30]) hC 2 (m_X0_sum   o28 v30 o31 eo31) q1764 q1765 q39 q1766 hd_X0_sum rfl ⟨Nat.le_of_ble_eq_true rfl, Nat.le_of_ble_eq_true rfl⟩ hS trivial hl.1 rfl (Nat.le_of_ble_eq_true rfl) dX0_isSummed_61 ⟨by have := hcE; have := hsE; omega, by have := hcE; have := hsE; omega⟩) ?_
        refine lv_aload_n hx hb dX0_isSummed_64 rfl (lv_at hl 0 rfl) ?_
        refine r_get hx hb hts hown hS h_x0 rfl in_X0 0 (by decide) q936 rfl (v := .ref x0r0) rfl dX0_isSummed_65 ?_
        refine lv_iload hx hb dX0_isSummed_68 (lv_at hl 3 rfl) ?_
        obtain ⟨o32, eo32, h⟩ := bind_step h
        refine r_ci (r_runV (rest := [.long o31]) (As := [.int v3]) hC 1 (m_X1_quarter x0r0 x0r0r0 x0r0r1 x0r0r2  x0r0r0c x0r0r1c x0r0r2c x0r0f3 x0r0f4 x0r0f5 x0r0f6 v3 o32 eo32) q1561 q1277 q1278 q46 q1279 (OA.recv hS h_x0r0.OA (C := RX1) rfl) hd_X1_quarter rfl ⟨Nat.le_of_ble_eq_true rfl, Nat.le_of_ble_eq_true rfl⟩ hS ⟨h_x0r0, h_x0r0r0, h_x0r0r1, h_x0r0r2⟩ hl.1 rfl (Nat.le_of_ble_eq_true rfl) dX0_isSummed_70 ⟨by have := hcE; have := hsE; omega, by have := hcE; have := hsE; omega⟩) hS (fun b H locs hp hS hz => ?_)
        obtain ⟨eb_, hO⟩ := hp
        rw [eb_]
        have h_x0 := h_x0.ext hO
        have h_x0r0 := h_x0r0.ext hO
        have h_x0r0r0 := h_x0r0r0.ext hO
        have h_x0r0r1 := h_x0r0r1.ext hO
        have h_x0r0r2 := h_x0r0r2.ext hO
        have hF := hF.trans (hO.mono (fun _ _ z => z.elim))
        obtain ⟨v33, ev33, h⟩ := ltl_step h
        refine r_i2l hx hb ev33 dX0_isSummed_73 ?_
        obtain ⟨o34, eo34, h⟩ := bind_step h
        refine r_cp (r_runS (rest := []) (As := [.long o31, .long v33]) hC 2 (m_X0_sum   o31 v33 o34 eo34) q1764 q1765 q39 q1766 hd_X0_sum rfl ⟨Nat.le_of_ble_eq_true rfl, Nat.le_of_ble_eq_true rfl⟩ hS trivial hl.1 rfl (Nat.le_of_ble_eq_true rfl) dX0_isSummed_74 ⟨by have := hcE; have := hsE; omega, by have := hcE; have := hsE; omega⟩) ?_
        refine lv_lstore_n (lv' := [(1, .long o34), (0, .ref x0), (3, .long o1), (5, .int v3)]) hx hb dX0_isSummed_77 rfl hl (by decide) rfl (fun ls hl => ?_)
        obtain ⟨v35, ev35, h⟩ := lti_step h
        refine lv_iinc (v := v35) (lv' := [(5, .int v35), (1, .long o34), (0, .ref x0), (3, .long o1)]) hx hb dX0_isSummed_78 hl (k := 3) rfl (by rw [ev35]; rfl) (by decide) rfl (fun ls hl => ?_)
        refine lv_goto (tgt := 15) hx hb dX0_isSummed_81 (by decide) ?_
        obtain rfl := Option.some.inj h
        exact ih o34 v35 w20 hk _ _ (hcN 12 (Nat.le_of_ble_eq_true rfl)) (hsN 170 (Nat.le_of_ble_eq_true rfl)) H locs hS hF h_x0 h_x0r0 h_x0r0r0 h_x0r0r1 h_x0r0r2 ls (lv_sub hl [2, 1, 3, 0] rfl) K84
  clear eF19
  refine HL 9 7675 0 w20 ew20 _ _ (Nat.le_of_eq eCE.symm) (Nat.le_of_eq eSE.symm) H locs hS hF h_x0 h_x0r0 h_x0r0r0 h_x0r0r1 h_x0r0r2 ls (lv_sub hl [3, 2, 1, 0] rfl) (fun  H locs hS hF h_x0 h_x0r0 h_x0r0r0 h_x0r0r1 h_x0r0r2 ls hl => ?_)
  rw [eCE, eSE]
  refine lv_iconst (v := 0) hx hb dX0_isSummed_84 (by decide) ?_
  refine lv_istore (lv' := [(5, .int 0), (0, .ref x0), (1, .long w20), (3, .long o1)]) hx hb dX0_isSummed_85 hl (by decide) rfl (fun ls hl => ?_)
  obtain ⟨F56, eF56, h⟩ := lt_step h
  obtain ⟨w57, ew57, h⟩ := bind_step h
  obtain ⟨CE, eCE⟩ : ∃ x : Nat, x = 832 + 126 := ⟨_, rfl⟩
  obtain ⟨SE, eSE⟩ : ∃ x : Nat, x = 6719 + 1008 := ⟨_, rfl⟩
  have hCE : CE ≤ R_X0_isSummed.cells := (by rw [eCE]; exact Nat.le_of_ble_eq_true rfl)
  have hSE : SE ≤ R_X0_isSummed.slots := (by rw [eSE]; exact Nat.le_of_ble_eq_true rfl)
  have HL : ∀ (n : Nat) (v36 : Int64) (v37 : Int32) (w57 : Int64) (hk0 : lp n (fun x => F56 x.1 x.2) (v36, v37) = some w57) (cl : Nat) (sl : Nat) (hcl : cl + 14 * n ≤ CE) (hsl : sl + 112 * n ≤ SE) (H : Heap) (locs : List Loc) (hS : St D s H locs) (hF : Off (fun a => a = x0r0) s.heap H) (h_x0 : OA D 1 x0 [.ref x0r0] H) (h_x0r0 : ON D 0 x0r0 [.ref x0r0r0, .ref x0r0r1, .ref x0r0r2, .int x0r0f3, .int x0r0f4, .int x0r0f5, .int x0r0f6] H) (h_x0r0r0 : aD D x0r0r0 8 x0r0r0c H) (h_x0r0r1 : aD D x0r0r1 8 x0r0r1c H) (h_x0r0r2 : aZ D x0r0r2 8 x0r0r2c H) (ls : Array Slot) (hl : lv_has ls 7 [(0, .ref x0), (1, .long v36), (3, .long o1), (5, .int v37)]) (K171 : ∀ (H : Heap) (locs : List Loc) (hS : St D s H locs) (hF : Off (fun a => a = x0r0) s.heap H) (h_x0 : OA D 1 x0 [.ref x0r0] H) (h_x0r0 : ON D 0 x0r0 [.ref x0r0r0, .ref x0r0r1, .ref x0r0r2, .int x0r0f3, .int x0r0f4, .int x0r0f5, .int x0r0f6] H) (h_x0r0r0 : aD D x0r0r0 8 x0r0r0c H) (h_x0r0r1 : aD D x0r0r1 8 x0r0r1c H) (h_x0r0r2 : aZ D x0r0r2 8 x0r0r2c H) (ls : Array Slot) (hl : lv_has ls 7 [(0, .ref x0), (1, .long w57), (3, .long o1)]), W p l e R_X0_isSummed s m A below meth c H locs CE SE Q (F0 m 171 ls [])), W p l e R_X0_isSummed s m A below meth c H locs cl sl Q (F0 m 87 ls []) := by
    intro n
    induction n with
    | zero => intro v36 v37 w57 hk0 cl sl hcl hsl H locs hS hF h_x0 h_x0r0 h_x0r0r0 h_x0r0r1 h_x0r0r2 ls hl K171; exact lp_zero hk0
    | succ n ih =>
      intro v36 v37 w57 hk0 cl sl hcl hsl H locs hS hF h_x0 h_x0r0 h_x0r0r0 h_x0r0r1 h_x0r0r2 ls hl K171
      obtain ⟨z58, hz, hk⟩ := lp_step hk0
      have h := (congrFun (congrFun (eF56) v36) v37).symm.trans hz
      have hcO : cl + 14 ≤ CE := al_out hcl
      have hcE : cl + 14 ≤ R_X0_isSummed.cells := Nat.le_trans hcO hCE
      have hcN : ∀ a, a ≤ 14 → cl + a + 14 * n ≤ CE := fun a ha => al_next hcl ha
      have hcN0 : cl + 14 * n ≤ CE := al_next hcl (Nat.zero_le _)
      have hsO : sl + 112 ≤ SE := al_out hsl
      have hsE : sl + 112 ≤ R_X0_isSummed.slots := Nat.le_trans hsO hSE
      have hsN : ∀ a, a ≤ 112 → sl + a + 112 * n ≤ SE := fun a ha => al_next hsl ha
      have hsN0 : sl + 112 * n ≤ SE := al_next hsl (Nat.zero_le _)
      clear hcl hsl
      refine lv_iload hx hb dX0_isSummed_87 (lv_at hl 3 rfl) ?_
      refine lv_bipush (v := 8) hx hb dX0_isSummed_89 (by decide) ?_
      refine lv_icmp_ge (tgt := 171) hx hb dX0_isSummed_91 (by decide) (fun c59 => ?_) (fun c59 => ?_)
      · have h := it_pos h c59
        obtain rfl := Option.some.inj h
        obtain rfl := id hk
        refine W.widen (k := CE) (n := SE) (by omega) (by omega) ?_
        exact K171 H locs hS hF h_x0 h_x0r0 h_x0r0r0 h_x0r0r1 h_x0r0r2 ls (lv_sub hl [0, 1, 2] rfl)
      · have h := it_neg h c59
        refine lv_lload_n hx hb dX0_isSummed_94 rfl (lv_at hl 1 rfl) ?_
        refine lv_aload_n hx hb dX0_isSummed_95 rfl (lv_at hl 0 rfl) ?_
        refine r_get hx hb hts hown hS h_x0 rfl in_X0 0 (by decide) q936 rfl (v := .ref x0r0) rfl dX0_isSummed_96 ?_
        refine lv_iload hx hb dX0_isSummed_99 (lv_at hl 3 rfl) ?_
        obtain ⟨o60, eo60, h⟩ := bind_step h
        refine r_ci (r_runV (rest := [.long v36]) (As := [.int v37]) hC 1 (m_X1_whole x0r0 x0r0r0 x0r0r1 x0r0r2  x0r0r0c x0r0r1c x0r0r2c x0r0f3 x0r0f4 x0r0f5 x0r0f6 v37 o60 eo60) q1198 q1199 q1200 q46 q1201 (OA.recv hS h_x0r0.OA (C := RX1) rfl) hd_X1_whole rfl ⟨Nat.le_of_ble_eq_true rfl, Nat.le_of_ble_eq_true rfl⟩ hS ⟨h_x0r0, h_x0r0r0, h_x0r0r1, h_x0r0r2⟩ hl.1 rfl (Nat.le_of_ble_eq_true rfl) dX0_isSummed_101 ⟨by have := hcE; have := hsE; omega, by have := hcE; have := hsE; omega⟩) hS (fun b H locs hp hS hz => ?_)
        obtain ⟨eb_, hO⟩ := hp
        rw [eb_]
        have h_x0 := h_x0.ext hO
        have h_x0r0 := h_x0r0.ext hO
        have h_x0r0r0 := h_x0r0r0.ext hO
        have h_x0r0r1 := h_x0r0r1.ext hO
        have h_x0r0r2 := h_x0r0r2.ext hO
        have hF := hF.trans (hO.mono (fun _ _ z => z.elim))
        obtain ⟨v61, ev61, h⟩ := ltl_step h
        refine r_i2l hx hb ev61 dX0_isSummed_104 ?_
        obtain ⟨o62, eo62, h⟩ := bind_step h
        refine r_cp (r_runS (rest := []) (As := [.long v36, .long v61]) hC 2 (m_X0_sum   v36 v61 o62 eo62) q1764 q1765 q39 q1766 hd_X0_sum rfl ⟨Nat.le_of_ble_eq_true rfl, Nat.le_of_ble_eq_true rfl⟩ hS trivial hl.1 rfl (Nat.le_of_ble_eq_true rfl) dX0_isSummed_105 ⟨by have := hcE; have := hsE; omega, by have := hcE; have := hsE; omega⟩) ?_
        refine lv_aload_n hx hb dX0_isSummed_108 rfl (lv_at hl 0 rfl) ?_
        refine r_get hx hb hts hown hS h_x0 rfl in_X0 0 (by decide) q936 rfl (v := .ref x0r0) rfl dX0_isSummed_109 ?_
        refine lv_iload hx hb dX0_isSummed_112 (lv_at hl 3 rfl) ?_
        refine lv_bipush (v := 30) hx hb dX0_isSummed_114 (by decide) ?_
        obtain ⟨o63, eo63, h⟩ := bind_step h
        refine r_ci (r_runV (rest := [.long o62]) (As := [.int v37, .int 30]) hC 2 (m_X1_steps x0r0 x0r0r0 x0r0r1 x0r0r2  x0r0r0c x0r0r1c x0r0r2c x0r0f3 x0r0f4 x0r0f5 x0r0f6 v37 30 o63 eo63) q1226 q1227 q1228 q46 q1229 (OA.recv hS h_x0r0.OA (C := RX1) rfl) hd_X1_steps rfl ⟨Nat.le_of_ble_eq_true rfl, Nat.le_of_ble_eq_true rfl⟩ hS ⟨h_x0r0, h_x0r0r0, h_x0r0r1, h_x0r0r2⟩ hl.1 rfl (Nat.le_of_ble_eq_true rfl) dX0_isSummed_116 ⟨by have := hcE; have := hsE; omega, by have := hcE; have := hsE; omega⟩) hS (fun b H locs hp hS hz => ?_)
        obtain ⟨eb_, hO⟩ := hp
        rw [eb_]
        have h_x0 := h_x0.ext hO
        have h_x0r0 := h_x0r0.ext hO
        have h_x0r0r0 := h_x0r0r0.ext hO
        have h_x0r0r1 := h_x0r0r1.ext hO
        have h_x0r0r2 := h_x0r0r2.ext hO
        have hF := hF.trans (hO.mono (fun _ _ z => z.elim))
        obtain ⟨v64, ev64, h⟩ := ltl_step h
        refine r_i2l hx hb ev64 dX0_isSummed_119 ?_
        obtain ⟨o65, eo65, h⟩ := bind_step h
        refine r_cp (r_runS (rest := []) (As := [.long o62, .long v64]) hC 2 (m_X0_sum   o62 v64 o65 eo65) q1764 q1765 q39 q1766 hd_X0_sum rfl ⟨Nat.le_of_ble_eq_true rfl, Nat.le_of_ble_eq_true rfl⟩ hS trivial hl.1 rfl (Nat.le_of_ble_eq_true rfl) dX0_isSummed_120 ⟨by have := hcE; have := hsE; omega, by have := hcE; have := hsE; omega⟩) ?_
        refine lv_aload_n hx hb dX0_isSummed_123 rfl (lv_at hl 0 rfl) ?_
        refine r_get hx hb hts hown hS h_x0 rfl in_X0 0 (by decide) q936 rfl (v := .ref x0r0) rfl dX0_isSummed_124 ?_
        refine lv_iload hx hb dX0_isSummed_127 (lv_at hl 3 rfl) ?_
        obtain ⟨o66, eo66, h⟩ := bind_step h
        refine r_cp (r_runV (rest := [.long o65]) (As := [.int v37]) hC 1 (m_X1_upper x0r0 x0r0r0 x0r0r1 x0r0r2  x0r0r0c x0r0r1c x0r0r2c x0r0f3 x0r0f4 x0r0f5 x0r0f6 v37 o66 eo66) q1240 q1241 q1242 q46 q1243 (OA.recv hS h_x0r0.OA (C := RX1) rfl) hd_X1_upper rfl ⟨Nat.le_of_ble_eq_true rfl, Nat.le_of_ble_eq_true rfl⟩ hS ⟨h_x0r0, h_x0r0r0, h_x0r0r1, h_x0r0r2⟩ hl.1 rfl (Nat.le_of_ble_eq_true rfl) dX0_isSummed_129 ⟨by have := hcE; have := hsE; omega, by have := hcE; have := hsE; omega⟩) ?_
        obtain ⟨v67, ev67, h⟩ := ltl_step h
        refine r_i2l hx hb ev67 dX0_isSummed_132 ?_
        obtain ⟨o68, eo68, h⟩ := bind_step h
        refine r_cp (r_runS (rest := []) (As := [.long o65, .long v67]) hC 2 (m_X0_sum   o65 v67 o68 eo68) q1764 q1765 q39 q1766 hd_X0_sum rfl ⟨Nat.le_of_ble_eq_true rfl, Nat.le_of_ble_eq_true rfl⟩ hS trivial hl.1 rfl (Nat.le_of_ble_eq_true rfl) dX0_isSummed_133 ⟨by have := hcE; have := hsE; omega, by have := hcE; have := hsE; omega⟩) ?_
        refine lv_aload_n hx hb dX0_isSummed_136 rfl (lv_at hl 0 rfl) ?_
        refine r_get hx hb hts hown hS h_x0 rfl in_X0 0 (by decide) q936 rfl (v := .ref x0r0) rfl dX0_isSummed_137 ?_
        refine lv_iload hx hb dX0_isSummed_140 (lv_at hl 3 rfl) ?_
        refine lv_iconst (v := 0) hx hb dX0_isSummed_142 (by decide) ?_
        obtain ⟨o69, eo69, h⟩ := bind_step h
        refine r_cp (r_runV (rest := [.long o68]) (As := [.int v37, .int 0]) hC 2 (m_X1_heightFind x0r0 x0r0r0 x0r0r1 x0r0r2  x0r0r0c x0r0r1c x0r0r2c x0r0f3 x0r0f4 x0r0f5 x0r0f6 v37 false o69 eo69) q1736 q1284 q1285 q46 q1286 (OA.recv hS h_x0r0.OA (C := RX1) rfl) hd_X1_heightFind rfl ⟨Nat.le_of_ble_eq_true rfl, Nat.le_of_ble_eq_true rfl⟩ hS ⟨h_x0r0, h_x0r0r0, h_x0r0r1, h_x0r0r2⟩ hl.1 rfl (Nat.le_of_ble_eq_true rfl) dX0_isSummed_143 ⟨by have := hcE; have := hsE; omega, by have := hcE; have := hsE; omega⟩) ?_
        obtain ⟨v70, ev70, h⟩ := ltl_step h
        refine r_i2l hx hb ev70 dX0_isSummed_146 ?_
        obtain ⟨o71, eo71, h⟩ := bind_step h
        refine r_cp (r_runS (rest := []) (As := [.long o68, .long v70]) hC 2 (m_X0_sum   o68 v70 o71 eo71) q1764 q1765 q39 q1766 hd_X0_sum rfl ⟨Nat.le_of_ble_eq_true rfl, Nat.le_of_ble_eq_true rfl⟩ hS trivial hl.1 rfl (Nat.le_of_ble_eq_true rfl) dX0_isSummed_147 ⟨by have := hcE; have := hsE; omega, by have := hcE; have := hsE; omega⟩) ?_
        refine lv_aload_n hx hb dX0_isSummed_150 rfl (lv_at hl 0 rfl) ?_
        refine r_get hx hb hts hown hS h_x0 rfl in_X0 0 (by decide) q936 rfl (v := .ref x0r0) rfl dX0_isSummed_151 ?_
        refine lv_iload hx hb dX0_isSummed_154 (lv_at hl 3 rfl) ?_
        refine lv_iconst (v := 1) hx hb dX0_isSummed_156 (by decide) ?_
        obtain ⟨o72, eo72, h⟩ := bind_step h
        refine r_cp (r_runV (rest := [.long o71]) (As := [.int v37, .int 1]) hC 2 (m_X1_heightFind x0r0 x0r0r0 x0r0r1 x0r0r2  x0r0r0c x0r0r1c x0r0r2c x0r0f3 x0r0f4 x0r0f5 x0r0f6 v37 true o72 eo72) q1736 q1284 q1285 q46 q1286 (OA.recv hS h_x0r0.OA (C := RX1) rfl) hd_X1_heightFind rfl ⟨Nat.le_of_ble_eq_true rfl, Nat.le_of_ble_eq_true rfl⟩ hS ⟨h_x0r0, h_x0r0r0, h_x0r0r1, h_x0r0r2⟩ hl.1 rfl (Nat.le_of_ble_eq_true rfl) dX0_isSummed_157 ⟨by have := hcE; have := hsE; omega, by have := hcE; have := hsE; omega⟩) ?_
        obtain ⟨v73, ev73, h⟩ := ltl_step h
        refine r_i2l hx hb ev73 dX0_isSummed_160 ?_
        obtain ⟨o74, eo74, h⟩ := bind_step h
        refine r_cp (r_runS (rest := []) (As := [.long o71, .long v73]) hC 2 (m_X0_sum   o71 v73 o74 eo74) q1764 q1765 q39 q1766 hd_X0_sum rfl ⟨Nat.le_of_ble_eq_true rfl, Nat.le_of_ble_eq_true rfl⟩ hS trivial hl.1 rfl (Nat.le_of_ble_eq_true rfl) dX0_isSummed_161 ⟨by have := hcE; have := hsE; omega, by have := hcE; have := hsE; omega⟩) ?_
        refine lv_lstore_n (lv' := [(1, .long o74), (0, .ref x0), (3, .long o1), (5, .int v37)]) hx hb dX0_isSummed_164 rfl hl (by decide) rfl (fun ls hl => ?_)
        obtain ⟨v75, ev75, h⟩ := lti_step h
        refine lv_iinc (v := v75) (lv' := [(5, .int v75), (1, .long o74), (0, .ref x0), (3, .long o1)]) hx hb dX0_isSummed_165 hl (k := 3) rfl (by rw [ev75]; rfl) (by decide) rfl (fun ls hl => ?_)
        refine lv_goto (tgt := 87) hx hb dX0_isSummed_168 (by decide) ?_
        obtain rfl := Option.some.inj h
        exact ih o74 v75 w57 hk _ _ (hcN 14 (Nat.le_of_ble_eq_true rfl)) (hsN 112 (Nat.le_of_ble_eq_true rfl)) H locs hS hF h_x0 h_x0r0 h_x0r0r0 h_x0r0r1 h_x0r0r2 ls (lv_sub hl [2, 1, 3, 0] rfl) K171
  clear eF56
  refine HL 9 w20 0 w57 ew57 _ _ (Nat.le_of_eq eCE.symm) (Nat.le_of_eq eSE.symm) H locs hS hF h_x0 h_x0r0 h_x0r0r0 h_x0r0r1 h_x0r0r2 ls (lv_sub hl [1, 2, 3, 0] rfl) (fun  H locs hS hF h_x0 h_x0r0 h_x0r0r0 h_x0r0r1 h_x0r0r2 ls hl => ?_)
  rw [eCE, eSE]
  refine lv_iconst (v := 0) hx hb dX0_isSummed_171 (by decide) ?_
  refine lv_istore (lv' := [(5, .int 0), (0, .ref x0), (1, .long w57), (3, .long o1)]) hx hb dX0_isSummed_172 hl (by decide) rfl (fun ls hl => ?_)
  obtain ⟨F93, eF93, h⟩ := lt_step h
  obtain ⟨w94, ew94, h⟩ := bind_step h
  obtain ⟨CE, eCE⟩ : ∃ x : Nat, x = 958 + 324 := ⟨_, rfl⟩
  obtain ⟨SE, eSE⟩ : ∃ x : Nat, x = 7727 + 324 := ⟨_, rfl⟩
  have hCE : CE ≤ R_X0_isSummed.cells := (by rw [eCE]; exact Nat.le_of_ble_eq_true rfl)
  have hSE : SE ≤ R_X0_isSummed.slots := (by rw [eSE]; exact Nat.le_of_ble_eq_true rfl)
  have HL : ∀ (n : Nat) (v76 : Int64) (v77 : Int32) (w94 : Int64) (hk0 : lp n (fun x => F93 x.1 x.2) (v76, v77) = some w94) (cl : Nat) (sl : Nat) (hcl : cl + 36 * n ≤ CE) (hsl : sl + 36 * n ≤ SE) (H : Heap) (locs : List Loc) (hS : St D s H locs) (hF : Off (fun a => a = x0r0) s.heap H) (h_x0 : OA D 1 x0 [.ref x0r0] H) (h_x0r0 : ON D 0 x0r0 [.ref x0r0r0, .ref x0r0r1, .ref x0r0r2, .int x0r0f3, .int x0r0f4, .int x0r0f5, .int x0r0f6] H) (h_x0r0r0 : aD D x0r0r0 8 x0r0r0c H) (h_x0r0r1 : aD D x0r0r1 8 x0r0r1c H) (h_x0r0r2 : aZ D x0r0r2 8 x0r0r2c H) (ls : Array Slot) (hl : lv_has ls 7 [(0, .ref x0), (1, .long v76), (3, .long o1), (5, .int v77)]) (K239 : ∀ (H : Heap) (locs : List Loc) (hS : St D s H locs) (hF : Off (fun a => a = x0r0) s.heap H) (h_x0 : OA D 1 x0 [.ref x0r0] H) (h_x0r0 : ON D 0 x0r0 [.ref x0r0r0, .ref x0r0r1, .ref x0r0r2, .int x0r0f3, .int x0r0f4, .int x0r0f5, .int x0r0f6] H) (h_x0r0r0 : aD D x0r0r0 8 x0r0r0c H) (h_x0r0r1 : aD D x0r0r1 8 x0r0r1c H) (h_x0r0r2 : aZ D x0r0r2 8 x0r0r2c H) (ls : Array Slot) (hl : lv_has ls 7 [(0, .ref x0), (1, .long w94), (3, .long o1)]), W p l e R_X0_isSummed s m A below meth c H locs CE SE Q (F0 m 239 ls [])), W p l e R_X0_isSummed s m A below meth c H locs cl sl Q (F0 m 174 ls []) := by
    intro n
    induction n with
    | zero => intro v76 v77 w94 hk0 cl sl hcl hsl H locs hS hF h_x0 h_x0r0 h_x0r0r0 h_x0r0r1 h_x0r0r2 ls hl K239; exact lp_zero hk0
    | succ n ih =>
      intro v76 v77 w94 hk0 cl sl hcl hsl H locs hS hF h_x0 h_x0r0 h_x0r0r0 h_x0r0r1 h_x0r0r2 ls hl K239
      obtain ⟨z95, hz, hk⟩ := lp_step hk0
      have h := (congrFun (congrFun (eF93) v76) v77).symm.trans hz
      have hcO : cl + 36 ≤ CE := al_out hcl
      have hcE : cl + 36 ≤ R_X0_isSummed.cells := Nat.le_trans hcO hCE
      have hcN : ∀ a, a ≤ 36 → cl + a + 36 * n ≤ CE := fun a ha => al_next hcl ha
      have hcN0 : cl + 36 * n ≤ CE := al_next hcl (Nat.zero_le _)
      have hsO : sl + 36 ≤ SE := al_out hsl
      have hsE : sl + 36 ≤ R_X0_isSummed.slots := Nat.le_trans hsO hSE
      have hsN : ∀ a, a ≤ 36 → sl + a + 36 * n ≤ SE := fun a ha => al_next hsl ha
      have hsN0 : sl + 36 * n ≤ SE := al_next hsl (Nat.zero_le _)
      clear hcl hsl
      refine lv_iload hx hb dX0_isSummed_174 (lv_at hl 3 rfl) ?_
      refine lv_bipush (v := 8) hx hb dX0_isSummed_176 (by decide) ?_
      refine lv_icmp_ge (tgt := 239) hx hb dX0_isSummed_178 (by decide) (fun c96 => ?_) (fun c96 => ?_)
      · have h := it_pos h c96
        obtain rfl := Option.some.inj h
        obtain rfl := id hk
        refine W.widen (k := CE) (n := SE) (by omega) (by omega) ?_
        exact K239 H locs hS hF h_x0 h_x0r0 h_x0r0r0 h_x0r0r1 h_x0r0r2 ls (lv_sub hl [0, 1, 2] rfl)
      · have h := it_neg h c96
        refine lv_iload hx hb dX0_isSummed_181 (lv_at hl 3 rfl) ?_
        refine lv_iconst (v := 1) hx hb dX0_isSummed_183 (by decide) ?_
        obtain ⟨v97, ev97, h⟩ := lti_step h
        refine r_iadd hx hb ev97 dX0_isSummed_184 ?_
        refine lv_istore (lv' := [(6, .int v97), (0, .ref x0), (1, .long v76), (3, .long o1), (5, .int v77)]) hx hb dX0_isSummed_185 hl (by decide) rfl (fun ls hl => ?_)
        obtain ⟨F109, eF109, h⟩ := lt_step h
        obtain ⟨w110, ew110, h⟩ := bind_step h
        obtain ⟨CE, eCE⟩ : ∃ x : Nat, x = cl + 36 := ⟨_, rfl⟩
        obtain ⟨SE, eSE⟩ : ∃ x : Nat, x = sl + 36 := ⟨_, rfl⟩
        have hCE : CE ≤ R_X0_isSummed.cells := (by have := hcE; omega)
        have hSE : SE ≤ R_X0_isSummed.slots := (by have := hsE; omega)
        have HL : ∀ (n : Nat) (v98 : Int64) (v99 : Int32) (w110 : Int64) (hk0 : lp n (fun x => F109 x.1 x.2) (v98, v99) = some w110) (cl : Nat) (sl : Nat) (hcl : cl + 4 * n ≤ CE) (hsl : sl + 4 * n ≤ SE) (H : Heap) (locs : List Loc) (hS : St D s H locs) (hF : Off (fun a => a = x0r0) s.heap H) (h_x0 : OA D 1 x0 [.ref x0r0] H) (h_x0r0 : ON D 0 x0r0 [.ref x0r0r0, .ref x0r0r1, .ref x0r0r2, .int x0r0f3, .int x0r0f4, .int x0r0f5, .int x0r0f6] H) (h_x0r0r0 : aD D x0r0r0 8 x0r0r0c H) (h_x0r0r1 : aD D x0r0r1 8 x0r0r1c H) (h_x0r0r2 : aZ D x0r0r2 8 x0r0r2c H) (ls : Array Slot) (hl : lv_has ls 7 [(0, .ref x0), (1, .long v98), (3, .long o1), (5, .int v77), (6, .int v99)]) (K233 : ∀ (H : Heap) (locs : List Loc) (hS : St D s H locs) (hF : Off (fun a => a = x0r0) s.heap H) (h_x0 : OA D 1 x0 [.ref x0r0] H) (h_x0r0 : ON D 0 x0r0 [.ref x0r0r0, .ref x0r0r1, .ref x0r0r2, .int x0r0f3, .int x0r0f4, .int x0r0f5, .int x0r0f6] H) (h_x0r0r0 : aD D x0r0r0 8 x0r0r0c H) (h_x0r0r1 : aD D x0r0r1 8 x0r0r1c H) (h_x0r0r2 : aZ D x0r0r2 8 x0r0r2c H) (ls : Array Slot) (hl : lv_has ls 7 [(0, .ref x0), (1, .long w110), (3, .long o1), (5, .int v77)]), W p l e R_X0_isSummed s m A below meth c H locs CE SE Q (F0 m 233 ls [])), W p l e R_X0_isSummed s m A below meth c H locs cl sl Q (F0 m 187 ls []) := by
          intro n
          induction n with
          | zero => intro v98 v99 w110 hk0 cl sl hcl hsl H locs hS hF h_x0 h_x0r0 h_x0r0r0 h_x0r0r1 h_x0r0r2 ls hl K233; exact lp_zero hk0
          | succ n ih =>
            intro v98 v99 w110 hk0 cl sl hcl hsl H locs hS hF h_x0 h_x0r0 h_x0r0r0 h_x0r0r1 h_x0r0r2 ls hl K233
            obtain ⟨z111, hz, hk⟩ := lp_step hk0
            have h := (congrFun (congrFun (eF109) v98) v99).symm.trans hz
            have hcO : cl + 4 ≤ CE := al_out hcl
            have hcE : cl + 4 ≤ R_X0_isSummed.cells := Nat.le_trans hcO hCE
            have hcN : ∀ a, a ≤ 4 → cl + a + 4 * n ≤ CE := fun a ha => al_next hcl ha
            have hcN0 : cl + 4 * n ≤ CE := al_next hcl (Nat.zero_le _)
            have hsO : sl + 4 ≤ SE := al_out hsl
            have hsE : sl + 4 ≤ R_X0_isSummed.slots := Nat.le_trans hsO hSE
            have hsN : ∀ a, a ≤ 4 → sl + a + 4 * n ≤ SE := fun a ha => al_next hsl ha
            have hsN0 : sl + 4 * n ≤ SE := al_next hsl (Nat.zero_le _)
            clear hcl hsl
            refine lv_iload hx hb dX0_isSummed_187 (lv_at hl 4 rfl) ?_
            refine lv_bipush (v := 8) hx hb dX0_isSummed_189 (by decide) ?_
            refine lv_icmp_ge (tgt := 233) hx hb dX0_isSummed_191 (by decide) (fun c112 => ?_) (fun c112 => ?_)
            · have h := it_pos h c112
              obtain rfl := Option.some.inj h
              obtain rfl := id hk
              refine W.widen (k := CE) (n := SE) (by omega) (by omega) ?_
              exact K233 H locs hS hF h_x0 h_x0r0 h_x0r0r0 h_x0r0r1 h_x0r0r2 ls (lv_sub hl [0, 1, 2, 3] rfl)
            · have h := it_neg h c112
              refine lv_lload_n hx hb dX0_isSummed_194 rfl (lv_at hl 1 rfl) ?_
              refine lv_aload_n hx hb dX0_isSummed_195 rfl (lv_at hl 0 rfl) ?_
              refine r_get hx hb hts hown hS h_x0 rfl in_X0 0 (by decide) q936 rfl (v := .ref x0r0) rfl dX0_isSummed_196 ?_
              refine lv_iload hx hb dX0_isSummed_199 (lv_at hl 3 rfl) ?_
              refine lv_iload hx hb dX0_isSummed_201 (lv_at hl 4 rfl) ?_
              refine lv_iconst (v := 0) hx hb dX0_isSummed_203 (by decide) ?_
              obtain ⟨o113, eo113, h⟩ := bind_step h
              refine r_ci (r_runV (rest := [.long v98]) (As := [.int v77, .int v99, .int 0]) hC 3 (m_X1_heightOrder x0r0 x0r0r0 x0r0r1 x0r0r2  x0r0r0c x0r0r1c x0r0r2c x0r0f3 x0r0f4 x0r0f5 x0r0f6 v77 v99 0 o113 eo113) q1604 q1288 q1289 q46 q1290 (OA.recv hS h_x0r0.OA (C := RX1) rfl) hd_X1_heightOrder rfl ⟨Nat.le_of_ble_eq_true rfl, Nat.le_of_ble_eq_true rfl⟩ hS ⟨h_x0r0, h_x0r0r0, h_x0r0r1, h_x0r0r2⟩ hl.1 rfl (Nat.le_of_ble_eq_true rfl) dX0_isSummed_204 ⟨by have := hcE; have := hsE; omega, by have := hcE; have := hsE; omega⟩) hS (fun b H locs hp hS hz => ?_)
              obtain ⟨eb_, hO⟩ := hp
              rw [eb_]
              have h_x0 := h_x0.ext hO
              have h_x0r0 := h_x0r0.ext hO
              have h_x0r0r0 := h_x0r0r0.ext hO
              have h_x0r0r1 := h_x0r0r1.ext hO
              have h_x0r0r2 := h_x0r0r2.ext hO
              have hF := hF.trans (hO.mono (fun _ _ z => z.elim))
              obtain ⟨v114, ev114, h⟩ := ltl_step h
              refine r_i2l hx hb ev114 dX0_isSummed_207 ?_
              obtain ⟨o115, eo115, h⟩ := bind_step h
              refine r_cp (r_runS (rest := []) (As := [.long v98, .long v114]) hC 2 (m_X0_sum   v98 v114 o115 eo115) q1764 q1765 q39 q1766 hd_X0_sum rfl ⟨Nat.le_of_ble_eq_true rfl, Nat.le_of_ble_eq_true rfl⟩ hS trivial hl.1 rfl (Nat.le_of_ble_eq_true rfl) dX0_isSummed_208 ⟨by have := hcE; have := hsE; omega, by have := hcE; have := hsE; omega⟩) ?_
              refine lv_aload_n hx hb dX0_isSummed_211 rfl (lv_at hl 0 rfl) ?_
              refine r_get hx hb hts hown hS h_x0 rfl in_X0 0 (by decide) q936 rfl (v := .ref x0r0) rfl dX0_isSummed_212 ?_
              refine lv_iload hx hb dX0_isSummed_215 (lv_at hl 3 rfl) ?_
              refine lv_iload hx hb dX0_isSummed_217 (lv_at hl 4 rfl) ?_
              obtain ⟨o116, eo116, h⟩ := bind_step h
              refine r_ci (r_runV (rest := [.long o115]) (As := [.int v77, .int v99]) hC 2 (m_X1_sizeOrder x0r0 x0r0r0 x0r0r1 x0r0r2  x0r0r0c x0r0r1c x0r0r2c x0r0f3 x0r0f4 x0r0f5 x0r0f6 v77 v99 o116 eo116) q1567 q1320 q1321 q46 q1322 (OA.recv hS h_x0r0.OA (C := RX1) rfl) hd_X1_sizeOrder rfl ⟨Nat.le_of_ble_eq_true rfl, Nat.le_of_ble_eq_true rfl⟩ hS ⟨h_x0r0, h_x0r0r0, h_x0r0r1, h_x0r0r2⟩ hl.1 rfl (Nat.le_of_ble_eq_true rfl) dX0_isSummed_219 ⟨by have := hcE; have := hsE; omega, by have := hcE; have := hsE; omega⟩) hS (fun b H locs hp hS hz => ?_)
              obtain ⟨eb_, hO⟩ := hp
              rw [eb_]
              have h_x0 := h_x0.ext hO
              have h_x0r0 := h_x0r0.ext hO
              have h_x0r0r0 := h_x0r0r0.ext hO
              have h_x0r0r1 := h_x0r0r1.ext hO
              have h_x0r0r2 := h_x0r0r2.ext hO
              have hF := hF.trans (hO.mono (fun _ _ z => z.elim))
              obtain ⟨v117, ev117, h⟩ := ltl_step h
              refine r_i2l hx hb ev117 dX0_isSummed_222 ?_
              obtain ⟨o118, eo118, h⟩ := bind_step h
              refine r_cp (r_runS (rest := []) (As := [.long o115, .long v117]) hC 2 (m_X0_sum   o115 v117 o118 eo118) q1764 q1765 q39 q1766 hd_X0_sum rfl ⟨Nat.le_of_ble_eq_true rfl, Nat.le_of_ble_eq_true rfl⟩ hS trivial hl.1 rfl (Nat.le_of_ble_eq_true rfl) dX0_isSummed_223 ⟨by have := hcE; have := hsE; omega, by have := hcE; have := hsE; omega⟩) ?_
              refine lv_lstore_n (lv' := [(1, .long o118), (0, .ref x0), (3, .long o1), (5, .int v77), (6, .int v99)]) hx hb dX0_isSummed_226 rfl hl (by decide) rfl (fun ls hl => ?_)
              obtain ⟨v119, ev119, h⟩ := lti_step h
              refine lv_iinc (v := v119) (lv' := [(6, .int v119), (1, .long o118), (0, .ref x0), (3, .long o1), (5, .int v77)]) hx hb dX0_isSummed_227 hl (k := 4) rfl (by rw [ev119]; rfl) (by decide) rfl (fun ls hl => ?_)
              refine lv_goto (tgt := 187) hx hb dX0_isSummed_230 (by decide) ?_
              obtain rfl := Option.some.inj h
              exact ih o118 v119 w110 hk _ _ (hcN 4 (Nat.le_of_ble_eq_true rfl)) (hsN 4 (Nat.le_of_ble_eq_true rfl)) H locs hS hF h_x0 h_x0r0 h_x0r0r0 h_x0r0r1 h_x0r0r2 ls (lv_sub hl [2, 1, 3, 4, 0] rfl) K233
        clear eF109
        refine HL 9 v76 v97 w110 ew110 _ _ (Nat.le_of_eq eCE.symm) (Nat.le_of_eq eSE.symm) H locs hS hF h_x0 h_x0r0 h_x0r0r0 h_x0r0r1 h_x0r0r2 ls (lv_sub hl [1, 2, 3, 4, 0] rfl) (fun  H locs hS hF h_x0 h_x0r0 h_x0r0r0 h_x0r0r1 h_x0r0r2 ls hl => ?_)
        rw [eCE, eSE]
        obtain ⟨v120, ev120, h⟩ := lti_step h
        refine lv_iinc (v := v120) (lv' := [(5, .int v120), (0, .ref x0), (1, .long w110), (3, .long o1)]) hx hb dX0_isSummed_233 hl (k := 3) rfl (by rw [ev120]; rfl) (by decide) rfl (fun ls hl => ?_)
        refine lv_goto (tgt := 174) hx hb dX0_isSummed_236 (by decide) ?_
        obtain rfl := Option.some.inj h
        exact ih w110 v120 w94 hk _ _ (hcN 36 (Nat.le_of_ble_eq_true rfl)) (hsN 36 (Nat.le_of_ble_eq_true rfl)) H locs hS hF h_x0 h_x0r0 h_x0r0r0 h_x0r0r1 h_x0r0r2 ls (lv_sub hl [1, 2, 3, 0] rfl) K239
  clear eF93
  refine HL 9 w57 0 w94 ew94 _ _ (Nat.le_of_eq eCE.symm) (Nat.le_of_eq eSE.symm) H locs hS hF h_x0 h_x0r0 h_x0r0r0 h_x0r0r1 h_x0r0r2 ls (lv_sub hl [1, 2, 3, 0] rfl) (fun  H locs hS hF h_x0 h_x0r0 h_x0r0r0 h_x0r0r1 h_x0r0r2 ls hl => ?_)
  rw [eCE, eSE]
  refine lv_iconst (v := 0) hx hb dX0_isSummed_239 (by decide) ?_
  refine lv_istore (lv' := [(5, .int 0), (0, .ref x0), (1, .long w94), (3, .long o1)]) hx hb dX0_isSummed_240 hl (by decide) rfl (fun ls hl => ?_)
  obtain ⟨F129, eF129, h⟩ := lt_step h
  obtain ⟨w130, ew130, h⟩ := bind_step h
  have HL : ∀ (n : Nat) (v121 : Int64) (v122 : Int32) (w130 : Int64) (hk0 : lp n (fun x => F129 x.1 x.2) (v121, v122) = some w130)  (H : Heap) (locs : List Loc) (hS : St D s H locs) (hF : Off (fun a => a = x0r0) s.heap H) (h_x0 : OA D 1 x0 [.ref x0r0] H) (h_x0r0 : ON D 0 x0r0 [.ref x0r0r0, .ref x0r0r1, .ref x0r0r2, .int x0r0f3, .int x0r0f4, .int x0r0f5, .int x0r0f6] H) (h_x0r0r0 : aD D x0r0r0 8 x0r0r0c H) (h_x0r0r1 : aD D x0r0r1 8 x0r0r1c H) (h_x0r0r2 : aZ D x0r0r2 8 x0r0r2c H) (ls : Array Slot) (hl : lv_has ls 7 [(0, .ref x0), (1, .long v121), (3, .long o1), (5, .int v122)]) (K269 : ∀ (H : Heap) (locs : List Loc) (hS : St D s H locs) (hF : Off (fun a => a = x0r0) s.heap H) (h_x0 : OA D 1 x0 [.ref x0r0] H) (h_x0r0 : ON D 0 x0r0 [.ref x0r0r0, .ref x0r0r1, .ref x0r0r2, .int x0r0f3, .int x0r0f4, .int x0r0f5, .int x0r0f6] H) (h_x0r0r0 : aD D x0r0r0 8 x0r0r0c H) (h_x0r0r1 : aD D x0r0r1 8 x0r0r1c H) (h_x0r0r2 : aZ D x0r0r2 8 x0r0r2c H) (ls : Array Slot) (hl : lv_has ls 7 [(0, .ref x0), (1, .long w130), (3, .long o1)]), W p l e R_X0_isSummed s m A below meth c H locs 1282 8051 Q (F0 m 269 ls [])), W p l e R_X0_isSummed s m A below meth c H locs 1282 8051 Q (F0 m 242 ls []) := by
    intro n
    induction n with
    | zero => intro v121 v122 w130 hk0  H locs hS hF h_x0 h_x0r0 h_x0r0r0 h_x0r0r1 h_x0r0r2 ls hl K269; exact lp_zero hk0
    | succ n ih =>
      intro v121 v122 w130 hk0  H locs hS hF h_x0 h_x0r0 h_x0r0r0 h_x0r0r1 h_x0r0r2 ls hl K269
      obtain ⟨z131, hz, hk⟩ := lp_step hk0
      have h := (congrFun (congrFun (eF129) v121) v122).symm.trans hz
      refine lv_iload hx hb dX0_isSummed_242 (lv_at hl 3 rfl) ?_
      refine lv_iconst (v := 4) hx hb dX0_isSummed_244 (by decide) ?_
      refine lv_icmp_ge (tgt := 269) hx hb dX0_isSummed_245 (by decide) (fun c132 => ?_) (fun c132 => ?_)
      · have h := it_pos h c132
        obtain rfl := Option.some.inj h
        obtain rfl := id hk
        exact K269 H locs hS hF h_x0 h_x0r0 h_x0r0r0 h_x0r0r1 h_x0r0r2 ls (lv_sub hl [0, 1, 2] rfl)
      · have h := it_neg h c132
        refine lv_lload_n hx hb dX0_isSummed_248 rfl (lv_at hl 1 rfl) ?_
        refine lv_aload_n hx hb dX0_isSummed_249 rfl (lv_at hl 0 rfl) ?_
        refine r_get hx hb hts hown hS h_x0 rfl in_X0 0 (by decide) q936 rfl (v := .ref x0r0) rfl dX0_isSummed_250 ?_
        refine lv_iload hx hb dX0_isSummed_253 (lv_at hl 3 rfl) ?_
        obtain ⟨o133, eo133, h⟩ := bind_step h
        refine r_cp (r_runV (rest := [.long v121]) (As := [.int v122]) hC 1 (m_X1_house x0r0 x0r0r0 x0r0r1 x0r0r2  x0r0r0c x0r0r1c x0r0r2c x0r0f3 x0r0f4 x0r0f5 x0r0f6 v122 o133 eo133) q1248 q1249 q1250 q46 q1251 (OA.recv hS h_x0r0.OA (C := RX1) rfl) hd_X1_house rfl ⟨Nat.le_of_ble_eq_true rfl, Nat.le_of_ble_eq_true rfl⟩ hS ⟨h_x0r0, h_x0r0r0, h_x0r0r1, h_x0r0r2⟩ hl.1 rfl (Nat.le_of_ble_eq_true rfl) dX0_isSummed_255 ⟨Nat.le_of_ble_eq_true rfl, Nat.le_of_ble_eq_true rfl⟩) ?_
        obtain ⟨v134, ev134, h⟩ := ltl_step h
        refine r_i2l hx hb ev134 dX0_isSummed_258 ?_
        obtain ⟨o135, eo135, h⟩ := bind_step h
        refine r_cp (r_runS (rest := []) (As := [.long v121, .long v134]) hC 2 (m_X0_sum   v121 v134 o135 eo135) q1764 q1765 q39 q1766 hd_X0_sum rfl ⟨Nat.le_of_ble_eq_true rfl, Nat.le_of_ble_eq_true rfl⟩ hS trivial hl.1 rfl (Nat.le_of_ble_eq_true rfl) dX0_isSummed_259 ⟨Nat.le_of_ble_eq_true rfl, Nat.le_of_ble_eq_true rfl⟩) ?_
        refine lv_lstore_n (lv' := [(1, .long o135), (0, .ref x0), (3, .long o1), (5, .int v122)]) hx hb dX0_isSummed_262 rfl hl (by decide) rfl (fun ls hl => ?_)
        obtain ⟨v136, ev136, h⟩ := lti_step h
        refine lv_iinc (v := v136) (lv' := [(5, .int v136), (1, .long o135), (0, .ref x0), (3, .long o1)]) hx hb dX0_isSummed_263 hl (k := 3) rfl (by rw [ev136]; rfl) (by decide) rfl (fun ls hl => ?_)
        refine lv_goto (tgt := 242) hx hb dX0_isSummed_266 (by decide) ?_
        obtain rfl := Option.some.inj h
        exact ih o135 v136 w130 hk  H locs hS hF h_x0 h_x0r0 h_x0r0r0 h_x0r0r1 h_x0r0r2 ls (lv_sub hl [2, 1, 3, 0] rfl) K269
  clear eF129
  refine HL 9 w94 0 w130 ew130  H locs hS hF h_x0 h_x0r0 h_x0r0r0 h_x0r0r1 h_x0r0r2 ls (lv_sub hl [1, 2, 3, 0] rfl) (fun  H locs hS hF h_x0 h_x0r0 h_x0r0r0 h_x0r0r1 h_x0r0r2 ls hl => ?_)
  refine lv_aload_n hx hb dX0_isSummed_269 rfl (lv_at hl 0 rfl) ?_
  refine r_get hx hb hts hown hS h_x0 rfl in_X0 0 (by decide) q936 rfl (v := .ref x0r0) rfl dX0_isSummed_270 ?_
  refine lv_iconst (v := 3) hx hb dX0_isSummed_273 (by decide) ?_
  obtain ⟨o137, eo137, h⟩ := bind_step h
  refine r_cp (r_runV (rest := []) (As := [.int 3]) hC 1 (m_X1_house x0r0 x0r0r0 x0r0r1 x0r0r2  x0r0r0c x0r0r1c x0r0r2c x0r0f3 x0r0f4 x0r0f5 x0r0f6 3 o137 eo137) q1248 q1249 q1250 q46 q1251 (OA.recv hS h_x0r0.OA (C := RX1) rfl) hd_X1_house rfl ⟨Nat.le_of_ble_eq_true rfl, Nat.le_of_ble_eq_true rfl⟩ hS ⟨h_x0r0, h_x0r0r0, h_x0r0r1, h_x0r0r2⟩ hl.1 rfl (Nat.le_of_ble_eq_true rfl) dX0_isSummed_274 ⟨Nat.le_of_ble_eq_true rfl, Nat.le_of_ble_eq_true rfl⟩) ?_
  refine lv_istore (lv' := [(5, .int o137), (0, .ref x0), (1, .long w130), (3, .long o1)]) hx hb dX0_isSummed_277 hl (by decide) rfl (fun ls hl => ?_)
  refine lv_aload_n hx hb dX0_isSummed_279 rfl (lv_at hl 1 rfl) ?_
  refine r_get hx hb hts hown hS h_x0 rfl in_X0 0 (by decide) q936 rfl (v := .ref x0r0) rfl dX0_isSummed_280 ?_
  obtain ⟨o138, eo138, h⟩ := bind_step h
  refine r_cz (r_runV (rest := []) (As := []) hC 0 (m_X1_isSound x0r0 x0r0r0 x0r0r1 x0r0r2  x0r0r0c x0r0r1c x0r0r2c x0r0f3 x0r0f4 x0r0f5 x0r0f6 o138 eo138) q1768 q1325 q1326 q46 q1327 (OA.recv hS h_x0r0.OA (C := RX1) rfl) hd_X1_isSound rfl ⟨Nat.le_of_ble_eq_true rfl, Nat.le_of_ble_eq_true rfl⟩ hS ⟨h_x0r0, h_x0r0r0, h_x0r0r1, h_x0r0r2⟩ hl.1 rfl (Nat.le_of_ble_eq_true rfl) dX0_isSummed_283 ⟨Nat.le_of_ble_eq_true rfl, Nat.le_of_ble_eq_true rfl⟩) hS (fun b H locs hp hS hz => ?_)
  obtain ⟨eb_, hO⟩ := hp
  rw [eb_]
  have h_x0 := h_x0.ext hO
  have h_x0r0 := h_x0r0.ext hO
  have h_x0r0r0 := h_x0r0r0.ext hO
  have h_x0r0r1 := h_x0r0r1.ext hO
  have h_x0r0r2 := h_x0r0r2.ext hO
  have hF := hF.trans (hO.mono (fun _ _ z => z.elim))
  refine r_ifz_eq (tgt := 360) hx hb dX0_isSummed_286 (by decide) (fun c139 => ?_) (fun c139 => ?_)
  · have h := it_neg h (by rw [c139]; decide)
    refine lv_iconst (v := 0) hx hb dX0_isSummed_360 (by decide) ?_
    obtain rfl := Option.some.inj h
    rw [eQ]
    exact r_zret hx hb hr hlk hS (by decide) (Nat.le_of_ble_eq_true rfl) (Nat.le_of_ble_eq_true rfl) dX0_isSummed_361 ⟨_, rfl, rfl, h_x0r0, hF⟩
  · have h := it_pos h (by rw [c139])
    refine lv_lload_n hx hb dX0_isSummed_289 rfl (lv_at hl 3 rfl) ?_
    refine lv_lload_n hx hb dX0_isSummed_290 rfl (lv_at hl 2 rfl) ?_
    refine lv_lconst (v := 1) hx hb dX0_isSummed_291 rfl ?_
    obtain ⟨o140, eo140, h⟩ := bind_step h
    refine r_cp (r_runS (rest := [.long o1]) (As := [.long w130, .long 1]) hC 2 (m_X0_sum   w130 1 o140 eo140) q1764 q1765 q39 q1766 hd_X0_sum rfl ⟨Nat.le_of_ble_eq_true rfl, Nat.le_of_ble_eq_true rfl⟩ hS trivial hl.1 rfl (Nat.le_of_ble_eq_true rfl) dX0_isSummed_292 ⟨Nat.le_of_ble_eq_true rfl, Nat.le_of_ble_eq_true rfl⟩) ?_
    obtain ⟨v141, ev141, h⟩ := lti_step h
    refine r_lcmp hx hb ev141 dX0_isSummed_295 ?_
    refine lv_if_ne (tgt := 360) hx hb dX0_isSummed_296 (by decide) (fun c142 => ?_) (fun c142 => ?_)
    · have h := it_neg h c142
      refine lv_iconst (v := 0) hx hb dX0_isSummed_360 (by decide) ?_
      obtain rfl := Option.some.inj h
      rw [eQ]
      exact r_zret hx hb hr hlk hS (by decide) (Nat.le_of_ble_eq_true rfl) (Nat.le_of_ble_eq_true rfl) dX0_isSummed_361 ⟨_, rfl, rfl, h_x0r0, hF⟩
    · have h := it_pos h c142
      refine lv_aload_n hx hb dX0_isSummed_299 rfl (lv_at hl 1 rfl) ?_
      refine r_get hx hb hts hown hS h_x0 rfl in_X0 0 (by decide) q936 rfl (v := .ref x0r0) rfl dX0_isSummed_300 ?_
      obtain ⟨o143, eo143, h⟩ := bind_step h
      refine r_cl (r_runV (rest := []) (As := []) hC 0 (m_X1_digest x0r0 x0r0r0 x0r0r1 x0r0r2  x0r0r0c x0r0r1c x0r0r2c x0r0f3 x0r0f4 x0r0f5 x0r0f6 o143 eo143) q1256 q1257 q1258 q46 q1259 (OA.recv hS h_x0r0.OA (C := RX1) rfl) hd_X1_digest rfl ⟨Nat.le_of_ble_eq_true rfl, Nat.le_of_ble_eq_true rfl⟩ hS ⟨h_x0r0, h_x0r0r0, h_x0r0r1, h_x0r0r2⟩ hl.1 rfl (Nat.le_of_ble_eq_true rfl) dX0_isSummed_303 ⟨Nat.le_of_ble_eq_true rfl, Nat.le_of_ble_eq_true rfl⟩) hS (fun b H locs hp hS hz => ?_)
      obtain ⟨eb_, hO⟩ := hp
      rw [eb_]
      have h_x0 := h_x0.ext hO
      have h_x0r0 := h_x0r0.ext hO
      have h_x0r0r0 := h_x0r0r0.ext hO
      have h_x0r0r1 := h_x0r0r1.ext hO
      have h_x0r0r2 := h_x0r0r2.ext hO
      have hF := hF.trans (hO.mono (fun _ _ z => z.elim))
      refine lv_lload_n hx hb dX0_isSummed_306 rfl (lv_at hl 3 rfl) ?_
      obtain ⟨v144, ev144, h⟩ := lti_step h
      refine r_lcmp hx hb ev144 dX0_isSummed_307 ?_
      refine lv_if_ne (tgt := 360) hx hb dX0_isSummed_308 (by decide) (fun c145 => ?_) (fun c145 => ?_)
      · have h := it_neg h c145
        refine lv_iconst (v := 0) hx hb dX0_isSummed_360 (by decide) ?_
        obtain rfl := Option.some.inj h
        rw [eQ]
        exact r_zret hx hb hr hlk hS (by decide) (Nat.le_of_ble_eq_true rfl) (Nat.le_of_ble_eq_true rfl) dX0_isSummed_361 ⟨_, rfl, rfl, h_x0r0, hF⟩
      · have h := it_pos h c145
        refine lv_aload_n hx hb dX0_isSummed_311 rfl (lv_at hl 1 rfl) ?_
        refine r_get hx hb hts hown hS h_x0 rfl in_X0 0 (by decide) q936 rfl (v := .ref x0r0) rfl dX0_isSummed_312 ?_
        obtain ⟨o146, eo146, h⟩ := bind_step h
        refine r_ci (r_runV (rest := []) (As := []) hC 0 (m_X1_knock x0r0 x0r0r0 x0r0r1 x0r0r2  x0r0r0c x0r0r1c x0r0r2c x0r0f3 x0r0f4 x0r0f5 x0r0f6 o146 eo146) q1769 q1770 q1771 q46 q1772 (OA.recv hS h_x0r0.OA (C := RX1) rfl) hd_X1_knock rfl ⟨Nat.le_of_ble_eq_true rfl, Nat.le_of_ble_eq_true rfl⟩ hS ⟨h_x0r0, hB_h_x0r0, h_x0r0r0, h_x0r0r1, h_x0r0r2, ne_x0r0_x0r0r0, ne_x0r0_x0r0r1, ne_x0r0_x0r0r2⟩ hl.1 rfl (Nat.le_of_ble_eq_true rfl) dX0_isSummed_315 ⟨Nat.le_of_ble_eq_true rfl, Nat.le_of_ble_eq_true rfl⟩) hS (fun b H locs hp hS hz => ?_)
        obtain ⟨rfl, h_x0r0, hO⟩ := hp
        have h_x0 := h_x0.off hO ne_x0_x0r0
        have h_x0r0r0 := h_x0r0r0.off hO (Ne.symm ne_x0r0_x0r0r0)
        have h_x0r0r1 := h_x0r0r1.off hO (Ne.symm ne_x0r0_x0r0r1)
        have h_x0r0r2 := h_x0r0r2.off hO (Ne.symm ne_x0r0_x0r0r2)
        have hF := hF.fresh hO (fun a ha z => z)
        refine lv_iload hx hb dX0_isSummed_318 (lv_at hl 0 rfl) ?_
        refine lv_iconst (v := 1) hx hb dX0_isSummed_320 (by decide) ?_
        obtain ⟨v147, ev147, h⟩ := lti_step h
        refine r_iadd hx hb ev147 dX0_isSummed_321 ?_
        refine lv_icmp_ne (tgt := 360) hx hb dX0_isSummed_322 (by decide) (fun c148 => ?_) (fun c148 => ?_)
        · have h := it_neg h c148
          refine lv_iconst (v := 0) hx hb dX0_isSummed_360 (by decide) ?_
          obtain rfl := Option.some.inj h
          rw [eQ]
          exact r_zret hx hb hr hlk hS (by decide) (Nat.le_of_ble_eq_true rfl) (Nat.le_of_ble_eq_true rfl) dX0_isSummed_361 ⟨_, rfl, rfl, h_x0r0, hF⟩
        · have h := it_pos h c148
          refine lv_aload_n hx hb dX0_isSummed_325 rfl (lv_at hl 1 rfl) ?_
          refine r_get hx hb hts hown hS h_x0 rfl in_X0 0 (by decide) q936 rfl (v := .ref x0r0) rfl dX0_isSummed_326 ?_
          refine lv_iconst (v := 3) hx hb dX0_isSummed_329 (by decide) ?_
          obtain ⟨o149, eo149, h⟩ := bind_step h
          refine r_cp (r_runV (rest := []) (As := [.int 3]) hC 1 (m_X1_house x0r0 x0r0r0 x0r0r1 x0r0r2  x0r0r0c x0r0r1c x0r0r2c x0r0f3 x0r0f4 x0r0f5 o146.2 3 o149 eo149) q1248 q1249 q1250 q46 q1251 (OA.recv hS h_x0r0.OA (C := RX1) rfl) hd_X1_house rfl ⟨Nat.le_of_ble_eq_true rfl, Nat.le_of_ble_eq_true rfl⟩ hS ⟨h_x0r0, h_x0r0r0, h_x0r0r1, h_x0r0r2⟩ hl.1 rfl (Nat.le_of_ble_eq_true rfl) dX0_isSummed_330 ⟨Nat.le_of_ble_eq_true rfl, Nat.le_of_ble_eq_true rfl⟩) ?_
          refine lv_iload hx hb dX0_isSummed_333 (lv_at hl 0 rfl) ?_
          refine lv_iconst (v := 1) hx hb dX0_isSummed_335 (by decide) ?_
          obtain ⟨v150, ev150, h⟩ := lti_step h
          refine r_iadd hx hb ev150 dX0_isSummed_336 ?_
          refine lv_icmp_ne (tgt := 360) hx hb dX0_isSummed_337 (by decide) (fun c151 => ?_) (fun c151 => ?_)
          · have h := it_neg h c151
            refine lv_iconst (v := 0) hx hb dX0_isSummed_360 (by decide) ?_
            obtain rfl := Option.some.inj h
            rw [eQ]
            exact r_zret hx hb hr hlk hS (by decide) (Nat.le_of_ble_eq_true rfl) (Nat.le_of_ble_eq_true rfl) dX0_isSummed_361 ⟨_, rfl, rfl, h_x0r0, hF⟩
          · have h := it_pos h c151
            refine lv_aload_n hx hb dX0_isSummed_340 rfl (lv_at hl 1 rfl) ?_
            refine r_get hx hb hts hown hS h_x0 rfl in_X0 0 (by decide) q936 rfl (v := .ref x0r0) rfl dX0_isSummed_341 ?_
            obtain ⟨o152, eo152, h⟩ := bind_step h
            refine r_cl (r_runV (rest := []) (As := []) hC 0 (m_X1_digest x0r0 x0r0r0 x0r0r1 x0r0r2  x0r0r0c x0r0r1c x0r0r2c x0r0f3 x0r0f4 x0r0f5 o146.2 o152 eo152) q1256 q1257 q1258 q46 q1259 (OA.recv hS h_x0r0.OA (C := RX1) rfl) hd_X1_digest rfl ⟨Nat.le_of_ble_eq_true rfl, Nat.le_of_ble_eq_true rfl⟩ hS ⟨h_x0r0, h_x0r0r0, h_x0r0r1, h_x0r0r2⟩ hl.1 rfl (Nat.le_of_ble_eq_true rfl) dX0_isSummed_344 ⟨Nat.le_of_ble_eq_true rfl, Nat.le_of_ble_eq_true rfl⟩) hS (fun b H locs hp hS hz => ?_)
            obtain ⟨eb_, hO⟩ := hp
            rw [eb_]
            have h_x0 := h_x0.ext hO
            have h_x0r0 := h_x0r0.ext hO
            have h_x0r0r0 := h_x0r0r0.ext hO
            have h_x0r0r1 := h_x0r0r1.ext hO
            have h_x0r0r2 := h_x0r0r2.ext hO
            have hF := hF.trans (hO.mono (fun _ _ z => z.elim))
            refine lv_lload_n hx hb dX0_isSummed_347 rfl (lv_at hl 3 rfl) ?_
            refine lv_ldc2 hx hb (v := 31) hown (hts _ q1767) dX0_isSummed_348 ?_
            obtain ⟨v153, ev153, h⟩ := ltl_step h
            refine r_ladd hx hb ev153 dX0_isSummed_351 ?_
            obtain ⟨v154, ev154, h⟩ := lti_step h
            refine r_lcmp hx hb ev154 dX0_isSummed_352 ?_
            refine lv_if_ne (tgt := 360) hx hb dX0_isSummed_353 (by decide) (fun c155 => ?_) (fun c155 => ?_)
            · have h := it_neg h c155
              refine lv_iconst (v := 0) hx hb dX0_isSummed_360 (by decide) ?_
              obtain rfl := Option.some.inj h
              rw [eQ]
              exact r_zret hx hb hr hlk hS (by decide) (Nat.le_of_ble_eq_true rfl) (Nat.le_of_ble_eq_true rfl) dX0_isSummed_361 ⟨_, rfl, rfl, h_x0r0, hF⟩
            · have h := it_pos h c155
              refine lv_iconst (v := 1) hx hb dX0_isSummed_356 (by decide) ?_
              refine lv_goto (tgt := 361) hx hb dX0_isSummed_357 (by decide) ?_
              obtain rfl := Option.some.inj h
              rw [eQ]
              exact r_zret hx hb hr hlk hS (by decide) (Nat.le_of_ble_eq_true rfl) (Nat.le_of_ble_eq_true rfl) dX0_isSummed_361 ⟨_, rfl, rfl, h_x0r0, hF⟩

