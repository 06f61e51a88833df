/-! KernelRemPio2, RemPio2: by tools/gen15.py -/
abbrev R_J13___kernel_rem_pio2 : Room := { frames := 5, cells := 4, slots := 80, locals := 1278 }
noncomputable def f_J13___kernel_rem_pio2_85 (g20 : Int32) (g21 : Int32) (g22 : Int32) (g23 : Int32) (g24 : Int32) (g25 : Int32) (g30 : Nat → UInt64) (g31 : Nat → UInt64) (g32 : Nat → Int32) (g33 : Nat → UInt64) : Nat → Int32 → Int32 → (Nat → UInt64) → Option ((Nat → UInt64))
  | 0, _, _, _ => none
  | n + 1, v17, v18, f19 =>
    (if g24 < v17 then
      some (f19)
    else
      lt (fun (v35 : UInt64) =>
      gd 20 v17 fun i37 =>
      lt (va_up f19 i37 v35) fun f38 =>
      lti (v17 + 1) fun v39 =>
      lti (v18 + 1) fun v40 =>
      f_J13___kernel_rem_pio2_85 g20 g21 g22 g23 g24 g25 g30 g31 g32 g33 n v39 v40 f38
      ) fun K36 =>
      (if 0 ≤ v18 then
        gd 66 v18 fun i42 =>
        lti (tb_twoOverPi i42) fun v43 =>
        ltd (i2dF v43) fun v44 =>
        K36 v44
      else
        K36 0
      )
    )
set_option maxHeartbeats 4000000 in
set_option maxRecDepth 100000 in
theorem b_J13___kernel_rem_pio2_85 {p : Program} {l : Launch} {e : Env} {s : State} {m : MethodId} {below : List Frame} {meth : Method} {c : Code} {D : DD} {A : Array Value} {Q : State → Prop} (hC : Cx p s m A meth c yJ13___kernel_rem_pio2 cJ13___kernel_rem_pio2 27 (some .int)) (hS0 : St D s s.heap []) {x0 : Nat} {x1 : Nat} {g20 : Int32} {g21 : Int32} {g22 : Int32} {g23 : Int32} {g24 : Int32} {g25 : Int32} {g26 : Nat} {g27 : Nat} {g28 : Nat} {g29 : Nat} {g30 : Nat → UInt64} {g31 : Nat → UInt64} {g32 : Nat → Int32} {g33 : Nat → UInt64} (ne_x0_x1 : x0 ≠ x1) (ne_h_x0_hq1 : x0 ≠ g26) (ne_h_x1_hq1 : x1 ≠ g26) (ne_h_x0_hq2 : x0 ≠ g27) (ne_h_x1_hq2 : x1 ≠ g27) (ne_hq1_hq2 : g26 ≠ g27) (ne_h_x0_hq3 : x0 ≠ g28) (ne_h_x1_hq3 : x1 ≠ g28) (ne_hq1_hq3 : g26 ≠ g28) (ne_hq2_hq3 : g27 ≠ g28) (ne_h_x0_hq4 : x0 ≠ g29) (ne_h_x1_hq4 : x1 ≠ g29) (ne_hq1_hq4 : g26 ≠ g29) (ne_hq2_hq4 : g27 ≠ g29) (ne_hq3_hq4 : g28 ≠ g29) (gq1 : s.heap.size ≤ g26) (gq2 : s.heap.size ≤ g27) (gq3 : s.heap.size ≤ g28) (gq4 : s.heap.size ≤ g29) (hB_h_x1 : dB D ≤ x1) (hB_hq1 : dB D ≤ g26) (hB_hq2 : dB D ≤ g27) (hB_hq3 : dB D ≤ g28) (hB_hq4 : dB D ≤ g29) : ∀ (n : Nat) (v17 : Int32) (v18 : Int32) (f19 : Nat → UInt64) (out : (Nat → UInt64)) (h : f_J13___kernel_rem_pio2_85 g20 g21 g22 g23 g24 g25 g30 g31 g32 g33 n v17 v18 f19 = some out) (H : Heap) (locs : List Loc) (hS : St D s H locs) (hF : Off (fun a => a = x1) s.heap H) (h_x0 : aD D x0 3 g30 H) (h_x1 : aD D x1 2 g31 H) (hq1 : aI D g26 20 g32 H) (hq2 : aD D g27 20 f19 H) (hq3 : aD D g28 20 g33 H) (hq4 : aD D g29 20 g33 H) (ls : Array Slot) (hl : lv_has ls 27 [(0, .ref x0), (1, .ref x1), (4, .int g20), (5, .ref (dN D 4)), (7, .int g21), (8, .int g22), (9, .int g23), (10, .int g23), (13, .int v17), (14, .int v18), (16, .int g24), (17, .int g25), (19, .ref g26), (24, .ref g27), (25, .ref g28), (26, .ref g29)]) (K : ∀ (H : Heap) (locs : List Loc) (hS : St D s H locs) (hF : Off (fun a => a = x1) s.heap H) (h_x0 : aD D x0 3 g30 H) (h_x1 : aD D x1 2 g31 H) (hq1 : aI D g26 20 g32 H) (hq2 : aD D g27 20 out H) (hq3 : aD D g28 20 g33 H) (hq4 : aD D g29 20 g33 H) (ls : Array Slot) (hl : lv_has ls 27 [(0, .ref x0), (1, .ref x1), (4, .int g20), (5, .ref (dN D 4)), (7, .int g21), (8, .int g22), (9, .int g23), (10, .int g23), (17, .int g25), (19, .ref g26), (24, .ref g27), (25, .ref g28), (26, .ref g29)]), W p l e R_J13___kernel_rem_pio2 s m A below meth c H locs 4 80 Q (F0 m 121 ls [])), W p l e R_J13___kernel_rem_pio2 s m A below meth c H locs 4 80 Q (F0 m 85 ls []) := by
  have _h := hS0
  obtain ⟨hx, hb, hr, hlk, hml, hown, hts, hnm⟩ := id hC
  intro n
  induction n with
  | zero => intro v17 v18 f19 out h; unfold f_J13___kernel_rem_pio2_85 at h; cases h
  | succ n ih =>
    intro v17 v18 f19 out h H locs hS hF h_x0 h_x1 hq1 hq2 hq3 hq4 ls hl K
    unfold f_J13___kernel_rem_pio2_85 at h
    refine lv_iload hx hb dJ13___kernel_rem_pio2_85 (lv_at hl 8 rfl) ?_
    refine lv_iload hx hb dJ13___kernel_rem_pio2_87 (lv_at hl 10 rfl) ?_
    refine lv_icmp_gt (tgt := 121) hx hb dJ13___kernel_rem_pio2_89 (by decide) (fun c34 => ?_) (fun c34 => ?_)
    · have h := it_pos h c34
      obtain rfl := Option.some.inj h
      exact K H locs hS hF h_x0 h_x1 hq1 hq2 hq3 hq4 ls (lv_sub hl [0, 1, 2, 3, 4, 5, 6, 7, 11, 12, 13, 14, 15] rfl)
    · have h := it_neg h c34
      refine lv_aload hx hb dJ13___kernel_rem_pio2_92 (lv_at hl 13 rfl) ?_
      refine lv_iload hx hb dJ13___kernel_rem_pio2_94 (lv_at hl 8 rfl) ?_
      refine lv_iload hx hb dJ13___kernel_rem_pio2_96 (lv_at hl 9 rfl) ?_
      obtain ⟨K36, eK36, h⟩ := lt_step h
      have HK36 : ∀ (v35 : UInt64) (h : K36 v35 = some out) (H : Heap) (locs : List Loc) (hS : St D s H locs) (hF : Off (fun a => a = x1) s.heap H) (h_x0 : aD D x0 3 g30 H) (h_x1 : aD D x1 2 g31 H) (hq1 : aI D g26 20 g32 H) (hq2 : aD D g27 20 f19 H) (hq3 : aD D g28 20 g33 H) (hq4 : aD D g29 20 g33 H) (ls : Array Slot) (hl : lv_has ls 27 [(0, .ref x0), (1, .ref x1), (4, .int g20), (5, .ref (dN D 4)), (7, .int g21), (8, .int g22), (9, .int g23), (10, .int g23), (13, .int v17), (14, .int v18), (16, .int g24), (17, .int g25), (19, .ref g26), (24, .ref g27), (25, .ref g28), (26, .ref g29)]), W p l e R_J13___kernel_rem_pio2 s m A below meth c H locs 4 80 Q (F0 m 111 ls [.double v35, .int v17, .ref g27]) := by
        intro v35 h H locs hS hF h_x0 h_x1 hq1 hq2 hq3 hq4 ls hl
        subst eK36
        obtain ⟨i37, xi37, h⟩ := gd_step (by decide) h
        obtain ⟨f38, ef38, h⟩ := lt_step h
        refine r_dast hx hb hS hq2 hB_hq2 i37 xi37 dJ13___kernel_rem_pio2_111 (fun H locs hS hO hq2 => ?_)
        have hq2 : aD D g27 20 f38 H := by rw [ef38]; exact hq2
        have h_x0 := h_x0.off hO ne_h_x0_hq2
        have h_x1 := h_x1.off hO ne_h_x1_hq2
        have hq1 := hq1.off hO ne_hq1_hq2
        have hq3 := hq3.off hO (Ne.symm ne_hq2_hq3)
        have hq4 := hq4.off hO (Ne.symm ne_hq2_hq4)
        have hF := hF.fresh hO (fun a ha z => absurd (z ▸ ha) (Nat.not_lt.mpr gq2))
        obtain ⟨v39, ev39, h⟩ := lti_step h
        refine lv_iinc (v := v39) (lv' := [(13, .int v39), (0, .ref x0), (1, .ref x1), (4, .int g20), (5, .ref (dN D 4)), (7, .int g21), (8, .int g22), (9, .int g23), (10, .int g23), (14, .int v18), (16, .int g24), (17, .int g25), (19, .ref g26), (24, .ref g27), (25, .ref g28), (26, .ref g29)]) hx hb dJ13___kernel_rem_pio2_112 hl (k := 8) rfl (by rw [ev39]; rfl) (by decide) rfl (fun ls hl => ?_)
        obtain ⟨v40, ev40, h⟩ := lti_step h
        refine lv_iinc (v := v40) (lv' := [(14, .int v40), (13, .int v39), (0, .ref x0), (1, .ref x1), (4, .int g20), (5, .ref (dN D 4)), (7, .int g21), (8, .int g22), (9, .int g23), (10, .int g23), (16, .int g24), (17, .int g25), (19, .ref g26), (24, .ref g27), (25, .ref g28), (26, .ref g29)]) hx hb dJ13___kernel_rem_pio2_115 hl (k := 9) rfl (by rw [ev40]; rfl) (by decide) rfl (fun ls hl => ?_)
        refine lv_goto (tgt := 85) hx hb dJ13___kernel_rem_pio2_118 (by decide) ?_
        exact ih v39 v40 f38 out h H locs hS hF h_x0 h_x1 hq1 hq2 hq3 hq4 ls (lv_sub hl [2, 3, 4, 5, 6, 7, 8, 9, 1, 0, 10, 11, 12, 13, 14, 15] rfl) K
      clear eK36
      refine lv_if_ge (tgt := 105) hx hb dJ13___kernel_rem_pio2_98 (by decide) (fun c41 => ?_) (fun c41 => ?_)
      · have h := it_pos h c41
        refine lv_aload hx hb dJ13___kernel_rem_pio2_105 (lv_at hl 3 rfl) ?_
        refine lv_iload hx hb dJ13___kernel_rem_pio2_107 (lv_at hl 9 rfl) ?_
        obtain ⟨i42, xi42, h⟩ := gd_step (by decide) h
        refine r_iald hx hb hS (hS.1.RA hS.1.1.2.2.2.1.2.2.2.2.1) i42 xi42 dJ13___kernel_rem_pio2_109 ?_
        obtain ⟨v43, ev43, h⟩ := lti_step h
        refine r_nmI ev43 ?_
        obtain ⟨v44, ev44, h⟩ := ltd_step h
        refine r_i2d hx hb ev44 dJ13___kernel_rem_pio2_110 ?_
        exact HK36 v44 h H locs hS hF h_x0 h_x1 hq1 hq2 hq3 hq4 ls (lv_sub hl [0, 1, 2, 3, 4, 5, 6, 7, 8, 9, 10, 11, 12, 13, 14, 15] rfl)
      · have h := it_neg h c41
        refine lv_dconst0 hx hb dJ13___kernel_rem_pio2_101 ?_
        refine lv_goto (tgt := 111) hx hb dJ13___kernel_rem_pio2_102 (by decide) ?_
        exact HK36 0 h H locs hS hF h_x0 h_x1 hq1 hq2 hq3 hq4 ls (lv_sub hl [0, 1, 2, 3, 4, 5, 6, 7, 8, 9, 10, 11, 12, 13, 14, 15] rfl)
noncomputable def f_J13___kernel_rem_pio2_137 (g65 : Int32) (g66 : Int32) (g67 : Int32) (g68 : Int32) (g69 : Int32) (g70 : Int32) (g75 : Nat → UInt64) (g76 : Nat → UInt64) (g77 : Nat → Int32) (g78 : Nat → UInt64) (g79 : Nat → UInt64) (g80 : Nat → UInt64) : Nat → Int32 → UInt64 → Option (UInt64)
  | 0, _, _ => none
  | n + 1, v63, v64 =>
    (if g66 < v63 then
      some (v64)
    else
      gd 3 v63 fun i82 =>
      ltd (g75 i82) fun v83 =>
      lti (g66 + g69) fun v84 =>
      lti (v84 - v63) fun v85 =>
      gd 20 v85 fun i86 =>
      ltd (g78 i86) fun v87 =>
      ck (dmulF v83 v87) fun v88 =>
      ck (daddF v64 v88) fun v89 =>
      lti (v63 + 1) fun v90 =>
      f_J13___kernel_rem_pio2_137 g65 g66 g67 g68 g69 g70 g75 g76 g77 g78 g79 g80 n v90 v89
    )
set_option maxHeartbeats 4000000 in
set_option maxRecDepth 100000 in
theorem b_J13___kernel_rem_pio2_137 {p : Program} {l : Launch} {e : Env} {s : State} {m : MethodId} {below : List Frame} {meth : Method} {c : Code} {D : DD} {A : Array Value} {Q : State → Prop} (hC : Cx p s m A meth c yJ13___kernel_rem_pio2 cJ13___kernel_rem_pio2 27 (some .int)) (hS0 : St D s s.heap []) {x0 : Nat} {x1 : Nat} {g65 : Int32} {g66 : Int32} {g67 : Int32} {g68 : Int32} {g69 : Int32} {g70 : Int32} {g71 : Nat} {g72 : Nat} {g73 : Nat} {g74 : Nat} {g75 : Nat → UInt64} {g76 : Nat → UInt64} {g77 : Nat → Int32} {g78 : Nat → UInt64} {g79 : Nat → UInt64} {g80 : Nat → UInt64} (ne_x0_x1 : x0 ≠ x1) (ne_h_x0_hq1 : x0 ≠ g71) (ne_h_x1_hq1 : x1 ≠ g71) (ne_h_x0_hq2 : x0 ≠ g72) (ne_h_x1_hq2 : x1 ≠ g72) (ne_hq1_hq2 : g71 ≠ g72) (ne_h_x0_hq3 : x0 ≠ g73) (ne_h_x1_hq3 : x1 ≠ g73) (ne_hq1_hq3 : g71 ≠ g73) (ne_hq2_hq3 : g72 ≠ g73) (ne_h_x0_hq4 : x0 ≠ g74) (ne_h_x1_hq4 : x1 ≠ g74) (ne_hq1_hq4 : g71 ≠ g74) (ne_hq2_hq4 : g72 ≠ g74) (ne_hq3_hq4 : g73 ≠ g74) (gq1 : s.heap.size ≤ g71) (gq2 : s.heap.size ≤ g72) (gq3 : s.heap.size ≤ g73) (gq4 : s.heap.size ≤ g74) (hB_h_x1 : dB D ≤ x1) (hB_hq1 : dB D ≤ g71) (hB_hq2 : dB D ≤ g72) (hB_hq3 : dB D ≤ g73) (hB_hq4 : dB D ≤ g74) : ∀ (n : Nat) (v63 : Int32) (v64 : UInt64) (out : UInt64) (h : f_J13___kernel_rem_pio2_137 g65 g66 g67 g68 g69 g70 g75 g76 g77 g78 g79 g80 n v63 v64 = some out) (H : Heap) (locs : List Loc) (hS : St D s H locs) (hF : Off (fun a => a = x1) s.heap H) (h_x0 : aD D x0 3 g75 H) (h_x1 : aD D x1 2 g76 H) (hq1 : aI D g71 20 g77 H) (hq2 : aD D g72 20 g78 H) (hq3 : aD D g73 20 g79 H) (hq4 : aD D g74 20 g80 H) (ls : Array Slot) (hl : lv_has ls 27 [(0, .ref x0), (1, .ref x1), (4, .int g65), (5, .ref (dN D 4)), (7, .int g66), (8, .int g67), (9, .int g68), (10, .int g68), (13, .int g69), (14, .int v63), (17, .int g70), (19, .ref g71), (22, .double v64), (24, .ref g72), (25, .ref g73), (26, .ref g74)]) (K : ∀ (H : Heap) (locs : List Loc) (hS : St D s H locs) (hF : Off (fun a => a = x1) s.heap H) (h_x0 : aD D x0 3 g75 H) (h_x1 : aD D x1 2 g76 H) (hq1 : aI D g71 20 g77 H) (hq2 : aD D g72 20 g78 H) (hq3 : aD D g73 20 g79 H) (hq4 : aD D g74 20 g80 H) (ls : Array Slot) (hl : lv_has ls 27 [(0, .ref x0), (1, .ref x1), (4, .int g65), (5, .ref (dN D 4)), (7, .int g66), (8, .int g67), (9, .int g68), (10, .int g68), (13, .int g69), (17, .int g70), (19, .ref g71), (22, .double out), (24, .ref g72), (25, .ref g73), (26, .ref g74)]), W p l e R_J13___kernel_rem_pio2 s m A below meth c H locs 4 80 Q (F0 m 171 ls [])), W p l e R_J13___kernel_rem_pio2 s m A below meth c H locs 4 80 Q (F0 m 137 ls []) := by
  have _h := hS0
  obtain ⟨hx, hb, hr, hlk, hml, hown, hts, hnm⟩ := id hC
  intro n
  induction n with
  | zero => intro v63 v64 out h; unfold f_J13___kernel_rem_pio2_137 at h; cases h
  | succ n ih =>
    intro v63 v64 out h H locs hS hF h_x0 h_x1 hq1 hq2 hq3 hq4 ls hl K
    unfold f_J13___kernel_rem_pio2_137 at h
    refine lv_iload hx hb dJ13___kernel_rem_pio2_137 (lv_at hl 9 rfl) ?_
    refine lv_iload hx hb dJ13___kernel_rem_pio2_139 (lv_at hl 4 rfl) ?_
    refine lv_icmp_gt (tgt := 171) hx hb dJ13___kernel_rem_pio2_141 (by decide) (fun c81 => ?_) (fun c81 => ?_)
    · have h := it_pos h c81
      obtain rfl := Option.some.inj h
      exact K H locs hS hF h_x0 h_x1 hq1 hq2 hq3 hq4 ls (lv_sub hl [0, 1, 2, 3, 4, 5, 6, 7, 8, 10, 11, 12, 13, 14, 15] rfl)
    · have h := it_neg h c81
      refine lv_dload hx hb dJ13___kernel_rem_pio2_144 (lv_at hl 12 rfl) ?_
      refine lv_aload_n hx hb dJ13___kernel_rem_pio2_146 rfl (lv_at hl 0 rfl) ?_
      refine lv_iload hx hb dJ13___kernel_rem_pio2_147 (lv_at hl 9 rfl) ?_
      obtain ⟨i82, xi82, h⟩ := gd_step (by decide) h
      refine r_dald hx hb hS h_x0 i82 xi82 dJ13___kernel_rem_pio2_149 ?_
      obtain ⟨v83, ev83, h⟩ := ltd_step h
      refine r_nmD ev83 ?_
      refine lv_aload hx hb dJ13___kernel_rem_pio2_150 (lv_at hl 13 rfl) ?_
      refine lv_iload hx hb dJ13___kernel_rem_pio2_152 (lv_at hl 4 rfl) ?_
      refine lv_iload hx hb dJ13___kernel_rem_pio2_154 (lv_at hl 8 rfl) ?_
      obtain ⟨v84, ev84, h⟩ := lti_step h
      refine r_iadd hx hb ev84 dJ13___kernel_rem_pio2_156 ?_
      refine lv_iload hx hb dJ13___kernel_rem_pio2_157 (lv_at hl 9 rfl) ?_
      obtain ⟨v85, ev85, h⟩ := lti_step h
      refine r_isub hx hb ev85 dJ13___kernel_rem_pio2_159 ?_
      obtain ⟨i86, xi86, h⟩ := gd_step (by decide) h
      refine r_dald hx hb hS hq2 i86 xi86 dJ13___kernel_rem_pio2_160 ?_
      obtain ⟨v87, ev87, h⟩ := ltd_step h
      refine r_nmD ev87 ?_
      obtain ⟨v88, ev88, nv88, h⟩ := ck_step h
      refine r_dmul hx hb ev88 nv88 dJ13___kernel_rem_pio2_161 ?_
      obtain ⟨v89, ev89, nv89, h⟩ := ck_step h
      refine r_dadd hx hb ev89 nv89 dJ13___kernel_rem_pio2_162 ?_
      refine lv_dstore (lv' := [(22, .double v89), (0, .ref x0), (1, .ref x1), (4, .int g65), (5, .ref (dN D 4)), (7, .int g66), (8, .int g67), (9, .int g68), (10, .int g68), (13, .int g69), (14, .int v63), (17, .int g70), (19, .ref g71), (24, .ref g72), (25, .ref g73), (26, .ref g74)]) hx hb dJ13___kernel_rem_pio2_163 hl (by decide) rfl (fun ls hl => ?_)
      obtain ⟨v90, ev90, h⟩ := lti_step h
      refine lv_iinc (v := v90) (lv' := [(14, .int v90), (22, .double v89), (0, .ref x0), (1, .ref x1), (4, .int g65), (5, .ref (dN D 4)), (7, .int g66), (8, .int g67), (9, .int g68), (10, .int g68), (13, .int g69), (17, .int g70), (19, .ref g71), (24, .ref g72), (25, .ref g73), (26, .ref g74)]) hx hb dJ13___kernel_rem_pio2_165 hl (k := 10) rfl (by rw [ev90]; rfl) (by decide) rfl (fun ls hl => ?_)
      refine lv_goto (tgt := 137) hx hb dJ13___kernel_rem_pio2_168 (by decide) ?_
      exact ih v90 v89 out h H locs hS hF h_x0 h_x1 hq1 hq2 hq3 hq4 ls (lv_sub hl [2, 3, 4, 5, 6, 7, 8, 9, 10, 0, 11, 12, 1, 13, 14, 15] rfl) K
noncomputable def f_J13___kernel_rem_pio2_124 (g48 : Int32) (g49 : Int32) (g50 : Int32) (g51 : Int32) (g52 : Int32) (g57 : Nat → UInt64) (g58 : Nat → UInt64) (g59 : Nat → Int32) (g60 : Nat → UInt64) (g61 : Nat → UInt64) : Nat → Int32 → (Nat → UInt64) → Option ((Nat → UInt64))
  | 0, _, _ => none
  | n + 1, v46, f47 =>
    (if g51 < v46 then
      some (f47)
    else
      Option.bind (f_J13___kernel_rem_pio2_137 g48 g49 g50 g51 v46 g52 g57 g58 g59 g60 g61 f47 64 0 0) fun o91 =>
      gd 20 v46 fun i92 =>
      lt (va_up f47 i92 o91) fun f93 =>
      lti (v46 + 1) fun v94 =>
      f_J13___kernel_rem_pio2_124 g48 g49 g50 g51 g52 g57 g58 g59 g60 g61 n v94 f93
    )
set_option maxHeartbeats 4000000 in
set_option maxRecDepth 100000 in
theorem b_J13___kernel_rem_pio2_124 {p : Program} {l : Launch} {e : Env} {s : State} {m : MethodId} {below : List Frame} {meth : Method} {c : Code} {D : DD} {A : Array Value} {Q : State → Prop} (hC : Cx p s m A meth c yJ13___kernel_rem_pio2 cJ13___kernel_rem_pio2 27 (some .int)) (hS0 : St D s s.heap []) {x0 : Nat} {x1 : Nat} {g48 : Int32} {g49 : Int32} {g50 : Int32} {g51 : Int32} {g52 : Int32} {g53 : Nat} {g54 : Nat} {g55 : Nat} {g56 : Nat} {g57 : Nat → UInt64} {g58 : Nat → UInt64} {g59 : Nat → Int32} {g60 : Nat → UInt64} {g61 : Nat → UInt64} (ne_x0_x1 : x0 ≠ x1) (ne_h_x0_hq1 : x0 ≠ g53) (ne_h_x1_hq1 : x1 ≠ g53) (ne_h_x0_hq2 : x0 ≠ g54) (ne_h_x1_hq2 : x1 ≠ g54) (ne_hq1_hq2 : g53 ≠ g54) (ne_h_x0_hq3 : x0 ≠ g55) (ne_h_x1_hq3 : x1 ≠ g55) (ne_hq1_hq3 : g53 ≠ g55) (ne_hq2_hq3 : g54 ≠ g55) (ne_h_x0_hq4 : x0 ≠ g56) (ne_h_x1_hq4 : x1 ≠ g56) (ne_hq1_hq4 : g53 ≠ g56) (ne_hq2_hq4 : g54 ≠ g56) (ne_hq3_hq4 : g55 ≠ g56) (gq1 : s.heap.size ≤ g53) (gq2 : s.heap.size ≤ g54) (gq3 : s.heap.size ≤ g55) (gq4 : s.heap.size ≤ g56) (hB_h_x1 : dB D ≤ x1) (hB_hq1 : dB D ≤ g53) (hB_hq2 : dB D ≤ g54) (hB_hq3 : dB D ≤ g55) (hB_hq4 : dB D ≤ g56) : ∀ (n : Nat) (v46 : Int32) (f47 : Nat → UInt64) (out : (Nat → UInt64)) (h : f_J13___kernel_rem_pio2_124 g48 g49 g50 g51 g52 g57 g58 g59 g60 g61 n v46 f47 = some out) (H : Heap) (locs : List Loc) (hS : St D s H locs) (hF : Off (fun a => a = x1) s.heap H) (h_x0 : aD D x0 3 g57 H) (h_x1 : aD D x1 2 g58 H) (hq1 : aI D g53 20 g59 H) (hq2 : aD D g54 20 g60 H) (hq3 : aD D g55 20 g61 H) (hq4 : aD D g56 20 f47 H) (ls : Array Slot) (hl : lv_has ls 27 [(0, .ref x0), (1, .ref x1), (4, .int g48), (5, .ref (dN D 4)), (7, .int g49), (8, .int g50), (9, .int g51), (10, .int g51), (13, .int v46), (17, .int g52), (19, .ref g53), (24, .ref g54), (25, .ref g55), (26, .ref g56)]) (K : ∀ (H : Heap) (locs : List Loc) (hS : St D s H locs) (hF : Off (fun a => a = x1) s.heap H) (h_x0 : aD D x0 3 g57 H) (h_x1 : aD D x1 2 g58 H) (hq1 : aI D g53 20 g59 H) (hq2 : aD D g54 20 g60 H) (hq3 : aD D g55 20 g61 H) (hq4 : aD D g56 20 out H) (ls : Array Slot) (hl : lv_has ls 27 [(0, .ref x0), (1, .ref x1), (4, .int g48), (5, .ref (dN D 4)), (7, .int g49), (8, .int g50), (9, .int g51), (10, .int g51), (17, .int g52), (19, .ref g53), (24, .ref g54), (25, .ref g55), (26, .ref g56)]), W p l e R_J13___kernel_rem_pio2 s m A below meth c H locs 4 80 Q (F0 m 184 ls [])), W p l e R_J13___kernel_rem_pio2 s m A below meth c H locs 4 80 Q (F0 m 124 ls []) := by
  have _h := hS0
  obtain ⟨hx, hb, hr, hlk, hml, hown, hts, hnm⟩ := id hC
  intro n
  induction n with
  | zero => intro v46 f47 out h; unfold f_J13___kernel_rem_pio2_124 at h; cases h
  | succ n ih =>
    intro v46 f47 out h H locs hS hF h_x0 h_x1 hq1 hq2 hq3 hq4 ls hl K
    unfold f_J13___kernel_rem_pio2_124 at h
    refine lv_iload hx hb dJ13___kernel_rem_pio2_124 (lv_at hl 8 rfl) ?_
    refine lv_iload hx hb dJ13___kernel_rem_pio2_126 (lv_at hl 7 rfl) ?_
    refine lv_icmp_gt (tgt := 184) hx hb dJ13___kernel_rem_pio2_128 (by decide) (fun c62 => ?_) (fun c62 => ?_)
    · have h := it_pos h c62
      obtain rfl := Option.some.inj h
      exact K H locs hS hF h_x0 h_x1 hq1 hq2 hq3 hq4 ls (lv_sub hl [0, 1, 2, 3, 4, 5, 6, 7, 9, 10, 11, 12, 13] rfl)
    · have h := it_neg h c62
      refine lv_iconst (v := 0) hx hb dJ13___kernel_rem_pio2_131 (by decide) ?_
      refine lv_istore (lv' := [(14, .int 0), (0, .ref x0), (1, .ref x1), (4, .int g48), (5, .ref (dN D 4)), (7, .int g49), (8, .int g50), (9, .int g51), (10, .int g51), (13, .int v46), (17, .int g52), (19, .ref g53), (24, .ref g54), (25, .ref g55), (26, .ref g56)]) hx hb dJ13___kernel_rem_pio2_132 hl (by decide) rfl (fun ls hl => ?_)
      refine lv_dconst0 hx hb dJ13___kernel_rem_pio2_134 ?_
      refine lv_dstore (lv' := [(22, .double 0), (14, .int 0), (0, .ref x0), (1, .ref x1), (4, .int g48), (5, .ref (dN D 4)), (7, .int g49), (8, .int g50), (9, .int g51), (10, .int g51), (13, .int v46), (17, .int g52), (19, .ref g53), (24, .ref g54), (25, .ref g55), (26, .ref g56)]) hx hb dJ13___kernel_rem_pio2_135 hl (by decide) rfl (fun ls hl => ?_)
      obtain ⟨o91, eo91, h⟩ := bind_step h
      refine b_J13___kernel_rem_pio2_137 hC hS0 ne_x0_x1 ne_h_x0_hq1 ne_h_x1_hq1 ne_h_x0_hq2 ne_h_x1_hq2 ne_hq1_hq2 ne_h_x0_hq3 ne_h_x1_hq3 ne_hq1_hq3 ne_hq2_hq3 ne_h_x0_hq4 ne_h_x1_hq4 ne_hq1_hq4 ne_hq2_hq4 ne_hq3_hq4 gq1 gq2 gq3 gq4 hB_h_x1 hB_hq1 hB_hq2 hB_hq3 hB_hq4 64 0 0 o91 eo91 H locs hS hF h_x0 h_x1 hq1 hq2 hq3 hq4 ls (lv_sub hl [2, 3, 4, 5, 6, 7, 8, 9, 10, 1, 11, 12, 0, 13, 14, 15] rfl) (fun H locs hS hF h_x0 h_x1 hq1 hq2 hq3 hq4 ls hl => ?_)
      refine lv_aload hx hb dJ13___kernel_rem_pio2_171 (lv_at hl 14 rfl) ?_
      refine lv_iload hx hb dJ13___kernel_rem_pio2_173 (lv_at hl 8 rfl) ?_
      refine lv_dload hx hb dJ13___kernel_rem_pio2_175 (lv_at hl 11 rfl) ?_
      obtain ⟨i92, xi92, h⟩ := gd_step (by decide) h
      obtain ⟨f93, ef93, h⟩ := lt_step h
      refine r_dast hx hb hS hq4 hB_hq4 i92 xi92 dJ13___kernel_rem_pio2_177 (fun H locs hS hO hq4 => ?_)
      have hq4 : aD D g56 20 f93 H := by rw [ef93]; exact hq4
      have h_x0 := h_x0.off hO ne_h_x0_hq4
      have h_x1 := h_x1.off hO ne_h_x1_hq4
      have hq1 := hq1.off hO ne_hq1_hq4
      have hq2 := hq2.off hO ne_hq2_hq4
      have hq3 := hq3.off hO ne_hq3_hq4
      have hF := hF.fresh hO (fun a ha z => absurd (z ▸ ha) (Nat.not_lt.mpr gq4))
      obtain ⟨v94, ev94, h⟩ := lti_step h
      refine lv_iinc (v := v94) (lv' := [(13, .int v94), (0, .ref x0), (1, .ref x1), (4, .int g48), (5, .ref (dN D 4)), (7, .int g49), (8, .int g50), (9, .int g51), (10, .int g51), (17, .int g52), (19, .ref g53), (22, .double o91), (24, .ref g54), (25, .ref g55), (26, .ref g56)]) hx hb dJ13___kernel_rem_pio2_178 hl (k := 8) rfl (by rw [ev94]; rfl) (by decide) rfl (fun ls hl => ?_)
      refine lv_goto (tgt := 124) hx hb dJ13___kernel_rem_pio2_181 (by decide) ?_
      exact ih v94 f93 out h H locs hS hF h_x0 h_x1 hq1 hq2 hq3 hq4 ls (lv_sub hl [1, 2, 3, 4, 5, 6, 7, 8, 0, 9, 10, 12, 13, 14] rfl) K
noncomputable def f_J13___kernel_rem_pio2_202 (g118 : Int32) (g119 : Int32) (g120 : Int32) (g121 : Int32) (g122 : Int32) (g123 : Int32) (g128 : Nat → UInt64) (g129 : Nat → UInt64) (g130 : Nat → UInt64) (g131 : Nat → UInt64) (g132 : Nat → UInt64) : Nat → Int32 → Int32 → UInt64 → (Nat → Int32) → Option (UInt64 × (Nat → Int32))
  | 0, _, _, _, _ => none
  | n + 1, v114, v115, v116, f117 =>
    (if v115 ≤ 0 then
      some (v116, f117)
    else
      ck (dmulF 4499096027743125504 v116) fun v134 =>
      lti (d2iF v134) fun v135 =>
      ltd (i2dF v135) fun v136 =>
      ck (dmulF 4715268809856909312 v136) fun v137 =>
      ck (dsubF v116 v137) fun v138 =>
      lti (d2iF v138) fun v139 =>
      gd 20 v114 fun i140 =>
      lt (va_up f117 i140 v139) fun f141 =>
      lti (v115 - 1) fun v142 =>
      gd 20 v142 fun i143 =>
      ltd (g132 i143) fun v144 =>
      ck (daddF v144 v136) fun v145 =>
      lti (v114 + 1) fun v146 =>
      lti (v115 + (-1)) fun v147 =>
      f_J13___kernel_rem_pio2_202 g118 g119 g120 g121 g122 g123 g128 g129 g130 g131 g132 n v146 v147 v145 f141
    )
set_option maxHeartbeats 4000000 in
set_option maxRecDepth 100000 in
theorem b_J13___kernel_rem_pio2_202 {p : Program} {l : Launch} {e : Env} {s : State} {m : MethodId} {below : List Frame} {meth : Method} {c : Code} {D : DD} {A : Array Value} {Q : State → Prop} (hC : Cx p s m A meth c yJ13___kernel_rem_pio2 cJ13___kernel_rem_pio2 27 (some .int)) (hS0 : St D s s.heap []) {x0 : Nat} {x1 : Nat} {g118 : Int32} {g119 : Int32} {g120 : Int32} {g121 : Int32} {g122 : Int32} {g123 : Int32} {g124 : Nat} {g125 : Nat} {g126 : Nat} {g127 : Nat} {g128 : Nat → UInt64} {g129 : Nat → UInt64} {g130 : Nat → UInt64} {g131 : Nat → UInt64} {g132 : Nat → UInt64} (ne_x0_x1 : x0 ≠ x1) (ne_h_x0_hq1 : x0 ≠ g124) (ne_h_x1_hq1 : x1 ≠ g124) (ne_h_x0_hq2 : x0 ≠ g125) (ne_h_x1_hq2 : x1 ≠ g125) (ne_hq1_hq2 : g124 ≠ g125) (ne_h_x0_hq3 : x0 ≠ g126) (ne_h_x1_hq3 : x1 ≠ g126) (ne_hq1_hq3 : g124 ≠ g126) (ne_hq2_hq3 : g125 ≠ g126) (ne_h_x0_hq4 : x0 ≠ g127) (ne_h_x1_hq4 : x1 ≠ g127) (ne_hq1_hq4 : g124 ≠ g127) (ne_hq2_hq4 : g125 ≠ g127) (ne_hq3_hq4 : g126 ≠ g127) (gq1 : s.heap.size ≤ g124) (gq2 : s.heap.size ≤ g125) (gq3 : s.heap.size ≤ g126) (gq4 : s.heap.size ≤ g127) (hB_h_x1 : dB D ≤ x1) (hB_hq1 : dB D ≤ g124) (hB_hq2 : dB D ≤ g125) (hB_hq3 : dB D ≤ g126) (hB_hq4 : dB D ≤ g127) : ∀ (n : Nat) (v114 : Int32) (v115 : Int32) (v116 : UInt64) (f117 : Nat → Int32) (out : UInt64 × (Nat → Int32)) (h : f_J13___kernel_rem_pio2_202 g118 g119 g120 g121 g122 g123 g128 g129 g130 g131 g132 n v114 v115 v116 f117 = some out) (H : Heap) (locs : List Loc) (hS : St D s H locs) (hF : Off (fun a => a = x1) s.heap H) (h_x0 : aD D x0 3 g128 H) (h_x1 : aD D x1 2 g129 H) (hq1 : aI D g124 20 f117 H) (hq2 : aD D g125 20 g130 H) (hq3 : aD D g126 20 g131 H) (hq4 : aD D g127 20 g132 H) (ls : Array Slot) (hl : lv_has ls 27 [(0, .ref x0), (1, .ref x1), (4, .int g118), (5, .ref (dN D 4)), (6, .int g119), (7, .int g120), (8, .int g121), (9, .int g122), (10, .int g122), (13, .int v114), (14, .int v115), (17, .int g123), (19, .ref g124), (20, .double v116), (24, .ref g125), (25, .ref g126), (26, .ref g127)]) (K : ∀ (H : Heap) (locs : List Loc) (hS : St D s H locs) (hF : Off (fun a => a = x1) s.heap H) (h_x0 : aD D x0 3 g128 H) (h_x1 : aD D x1 2 g129 H) (hq1 : aI D g124 20 out.2 H) (hq2 : aD D g125 20 g130 H) (hq3 : aD D g126 20 g131 H) (hq4 : aD D g127 20 g132 H) (ls : Array Slot) (hl : lv_has ls 27 [(0, .ref x0), (1, .ref x1), (4, .int g118), (5, .ref (dN D 4)), (6, .int g119), (7, .int g120), (8, .int g121), (9, .int g122), (10, .int g122), (17, .int g123), (19, .ref g124), (20, .double out.1), (24, .ref g125), (25, .ref g126), (26, .ref g127)]), W p l e R_J13___kernel_rem_pio2 s m A below meth c H locs 4 80 Q (F0 m 253 ls [])), W p l e R_J13___kernel_rem_pio2 s m A below meth c H locs 4 80 Q (F0 m 202 ls []) := by
  have _h := hS0
  obtain ⟨hx, hb, hr, hlk, hml, hown, hts, hnm⟩ := id hC
  intro n
  induction n with
  | zero => intro v114 v115 v116 f117 out h; unfold f_J13___kernel_rem_pio2_202 at h; cases h
  | succ n ih =>
    intro v114 v115 v116 f117 out h H locs hS hF h_x0 h_x1 hq1 hq2 hq3 hq4 ls hl K
    unfold f_J13___kernel_rem_pio2_202 at h
    refine lv_iload hx hb dJ13___kernel_rem_pio2_202 (lv_at hl 10 rfl) ?_
    refine lv_if_le (tgt := 253) hx hb dJ13___kernel_rem_pio2_204 (by decide) (fun c133 => ?_) (fun c133 => ?_)
    · have h := it_pos h c133
      obtain rfl := Option.some.inj h
      exact K H locs hS hF h_x0 h_x1 hq1 hq2 hq3 hq4 ls (lv_sub hl [0, 1, 2, 3, 4, 5, 6, 7, 8, 11, 12, 13, 14, 15, 16] rfl)
    · have h := it_neg h c133
      refine lv_ldc2d hx hb (v := 4499096027743125504) hown (hts _ q247) dJ13___kernel_rem_pio2_207 ?_
      refine lv_dload hx hb dJ13___kernel_rem_pio2_210 (lv_at hl 13 rfl) ?_
      obtain ⟨v134, ev134, nv134, h⟩ := ck_step h
      refine r_dmul hx hb ev134 nv134 dJ13___kernel_rem_pio2_212 ?_
      obtain ⟨v135, ev135, h⟩ := lti_step h
      refine r_d2i hx hb ev135 dJ13___kernel_rem_pio2_213 ?_
      obtain ⟨v136, ev136, h⟩ := ltd_step h
      refine r_i2d hx hb ev136 dJ13___kernel_rem_pio2_214 ?_
      refine lv_dstore (lv' := [(22, .double v136), (0, .ref x0), (1, .ref x1), (4, .int g118), (5, .ref (dN D 4)), (6, .int g119), (7, .int g120), (8, .int g121), (9, .int g122), (10, .int g122), (13, .int v114), (14, .int v115), (17, .int g123), (19, .ref g124), (20, .double v116), (24, .ref g125), (25, .ref g126), (26, .ref g127)]) hx hb dJ13___kernel_rem_pio2_215 hl (by decide) rfl (fun ls hl => ?_)
      refine lv_aload hx hb dJ13___kernel_rem_pio2_217 (lv_at hl 13 rfl) ?_
      refine lv_iload hx hb dJ13___kernel_rem_pio2_219 (lv_at hl 10 rfl) ?_
      refine lv_dload hx hb dJ13___kernel_rem_pio2_221 (lv_at hl 14 rfl) ?_
      refine lv_ldc2d hx hb (v := 4715268809856909312) hown (hts _ q248) dJ13___kernel_rem_pio2_223 ?_
      refine lv_dload hx hb dJ13___kernel_rem_pio2_226 (lv_at hl 0 rfl) ?_
      obtain ⟨v137, ev137, nv137, h⟩ := ck_step h
      refine r_dmul hx hb ev137 nv137 dJ13___kernel_rem_pio2_228 ?_
      obtain ⟨v138, ev138, nv138, h⟩ := ck_step h
      refine r_dsub hx hb ev138 nv138 dJ13___kernel_rem_pio2_229 ?_
      obtain ⟨v139, ev139, h⟩ := lti_step h
      refine r_d2i hx hb ev139 dJ13___kernel_rem_pio2_230 ?_
      obtain ⟨i140, xi140, h⟩ := gd_step (by decide) h
      obtain ⟨f141, ef141, h⟩ := lt_step h
      refine r_iast hx hb hS hq1 hB_hq1 i140 xi140 dJ13___kernel_rem_pio2_231 (fun H locs hS hO hq1 => ?_)
      have hq1 : aI D g124 20 f141 H := by rw [ef141]; exact hq1
      have h_x0 := h_x0.off hO ne_h_x0_hq1
      have h_x1 := h_x1.off hO ne_h_x1_hq1
      have hq2 := hq2.off hO (Ne.symm ne_hq1_hq2)
      have hq3 := hq3.off hO (Ne.symm ne_hq1_hq3)
      have hq4 := hq4.off hO (Ne.symm ne_hq1_hq4)
      have hF := hF.fresh hO (fun a ha z => absurd (z ▸ ha) (Nat.not_lt.mpr gq1))
      refine lv_aload hx hb dJ13___kernel_rem_pio2_232 (lv_at hl 17 rfl) ?_
      refine lv_iload hx hb dJ13___kernel_rem_pio2_234 (lv_at hl 11 rfl) ?_
      refine lv_iconst (v := 1) hx hb dJ13___kernel_rem_pio2_236 (by decide) ?_
      obtain ⟨v142, ev142, h⟩ := lti_step h
      refine r_isub hx hb ev142 dJ13___kernel_rem_pio2_237 ?_
      obtain ⟨i143, xi143, h⟩ := gd_step (by decide) h
      refine r_dald hx hb hS hq4 i143 xi143 dJ13___kernel_rem_pio2_238 ?_
      obtain ⟨v144, ev144, h⟩ := ltd_step h
      refine r_nmD ev144 ?_
      refine lv_dload hx hb dJ13___kernel_rem_pio2_239 (lv_at hl 0 rfl) ?_
      obtain ⟨v145, ev145, nv145, h⟩ := ck_step h
      refine r_dadd hx hb ev145 nv145 dJ13___kernel_rem_pio2_241 ?_
      refine lv_dstore (lv' := [(20, .double v145), (22, .double v136), (0, .ref x0), (1, .ref x1), (4, .int g118), (5, .ref (dN D 4)), (6, .int g119), (7, .int g120), (8, .int g121), (9, .int g122), (10, .int g122), (13, .int v114), (14, .int v115), (17, .int g123), (19, .ref g124), (24, .ref g125), (25, .ref g126), (26, .ref g127)]) hx hb dJ13___kernel_rem_pio2_242 hl (by decide) rfl (fun ls hl => ?_)
      obtain ⟨v146, ev146, h⟩ := lti_step h
      refine lv_iinc (v := v146) (lv' := [(13, .int v146), (20, .double v145), (22, .double v136), (0, .ref x0), (1, .ref x1), (4, .int g118), (5, .ref (dN D 4)), (6, .int g119), (7, .int g120), (8, .int g121), (9, .int g122), (10, .int g122), (14, .int v115), (17, .int g123), (19, .ref g124), (24, .ref g125), (25, .ref g126), (26, .ref g127)]) hx hb dJ13___kernel_rem_pio2_244 hl (k := 11) rfl (by rw [ev146]; rfl) (by decide) rfl (fun ls hl => ?_)
      obtain ⟨v147, ev147, h⟩ := lti_step h
      refine lv_iinc (v := v147) (lv' := [(14, .int v147), (13, .int v146), (20, .double v145), (22, .double v136), (0, .ref x0), (1, .ref x1), (4, .int g118), (5, .ref (dN D 4)), (6, .int g119), (7, .int g120), (8, .int g121), (9, .int g122), (10, .int g122), (17, .int g123), (19, .ref g124), (24, .ref g125), (25, .ref g126), (26, .ref g127)]) hx hb dJ13___kernel_rem_pio2_247 hl (k := 12) rfl (by rw [ev147]; rfl) (by decide) rfl (fun ls hl => ?_)
      refine lv_goto (tgt := 202) hx hb dJ13___kernel_rem_pio2_250 (by decide) ?_
      exact ih v146 v147 v145 f141 out h H locs hS hF h_x0 h_x1 hq1 hq2 hq3 hq4 ls (lv_sub hl [4, 5, 6, 7, 8, 9, 10, 11, 12, 1, 0, 13, 14, 2, 15, 16, 17] rfl) K
noncomputable def f_J13___kernel_rem_pio2_567 (g170 : Int32) (g171 : Int32) (g172 : Int32) (g173 : Int32) (g174 : Int32) (g175 : Int32) (g176 : Int32) (g177 : Int32) (g179 : UInt64) (g183 : Nat → UInt64) (g184 : Nat → UInt64) (g185 : Nat → Int32) (g186 : Nat → UInt64) (g187 : Nat → UInt64) (g188 : Nat → UInt64) : Nat → Int32 → Int32 → Option (Int32)
  | 0, _, _ => none
  | n + 1, v168, v169 =>
    (if v168 < g174 then
      some (v169)
    else
      gd 20 v168 fun i190 =>
      lti (g185 i190) fun v191 =>
      lti (v169 ||| v191) fun v192 =>
      lti (v168 + (-1)) fun v193 =>
      f_J13___kernel_rem_pio2_567 g170 g171 g172 g173 g174 g175 g176 g177 g179 g183 g184 g185 g186 g187 g188 n v193 v192
    )
set_option maxHeartbeats 4000000 in
set_option maxRecDepth 100000 in
theorem b_J13___kernel_rem_pio2_567 {p : Program} {l : Launch} {e : Env} {s : State} {m : MethodId} {below : List Frame} {meth : Method} {c : Code} {D : DD} {A : Array Value} {Q : State → Prop} (hC : Cx p s m A meth c yJ13___kernel_rem_pio2 cJ13___kernel_rem_pio2 27 (some .int)) (hS0 : St D s s.heap []) {x0 : Nat} {x1 : Nat} {g170 : Int32} {g171 : Int32} {g172 : Int32} {g173 : Int32} {g174 : Int32} {g175 : Int32} {g176 : Int32} {g177 : Int32} {g178 : Nat} {g179 : UInt64} {g180 : Nat} {g181 : Nat} {g182 : Nat} {g183 : Nat → UInt64} {g184 : Nat → UInt64} {g185 : Nat → Int32} {g186 : Nat → UInt64} {g187 : Nat → UInt64} {g188 : Nat → UInt64} (ne_x0_x1 : x0 ≠ x1) (ne_h_x0_hq1 : x0 ≠ g178) (ne_h_x1_hq1 : x1 ≠ g178) (ne_h_x0_hq2 : x0 ≠ g180) (ne_h_x1_hq2 : x1 ≠ g180) (ne_hq1_hq2 : g178 ≠ g180) (ne_h_x0_hq3 : x0 ≠ g181) (ne_h_x1_hq3 : x1 ≠ g181) (ne_hq1_hq3 : g178 ≠ g181) (ne_hq2_hq3 : g180 ≠ g181) (ne_h_x0_hq4 : x0 ≠ g182) (ne_h_x1_hq4 : x1 ≠ g182) (ne_hq1_hq4 : g178 ≠ g182) (ne_hq2_hq4 : g180 ≠ g182) (ne_hq3_hq4 : g181 ≠ g182) (gq1 : s.heap.size ≤ g178) (gq2 : s.heap.size ≤ g180) (gq3 : s.heap.size ≤ g181) (gq4 : s.heap.size ≤ g182) (hB_h_x1 : dB D ≤ x1) (hB_hq1 : dB D ≤ g178) (hB_hq2 : dB D ≤ g180) (hB_hq3 : dB D ≤ g181) (hB_hq4 : dB D ≤ g182) : ∀ (n : Nat) (v168 : Int32) (v169 : Int32) (out : Int32) (h : f_J13___kernel_rem_pio2_567 g170 g171 g172 g173 g174 g175 g176 g177 g179 g183 g184 g185 g186 g187 g188 n v168 v169 = some out) (H : Heap) (locs : List Loc) (hS : St D s H locs) (hF : Off (fun a => a = x1) s.heap H) (h_x0 : aD D x0 3 g183 H) (h_x1 : aD D x1 2 g184 H) (hq1 : aI D g178 20 g185 H) (hq2 : aD D g180 20 g186 H) (hq3 : aD D g181 20 g187 H) (hq4 : aD D g182 20 g188 H) (ls : Array Slot) (hl : lv_has ls 27 [(0, .ref x0), (1, .ref x1), (4, .int g170), (5, .ref (dN D 4)), (6, .int g171), (7, .int g172), (8, .int g173), (9, .int g174), (10, .int g174), (12, .int g175), (13, .int v168), (14, .int v169), (17, .int g176), (18, .int g177), (19, .ref g178), (20, .double g179), (24, .ref g180), (25, .ref g181), (26, .ref g182)]) (K : ∀ (H : Heap) (locs : List Loc) (hS : St D s H locs) (hF : Off (fun a => a = x1) s.heap H) (h_x0 : aD D x0 3 g183 H) (h_x1 : aD D x1 2 g184 H) (hq1 : aI D g178 20 g185 H) (hq2 : aD D g180 20 g186 H) (hq3 : aD D g181 20 g187 H) (hq4 : aD D g182 20 g188 H) (ls : Array Slot) (hl : lv_has ls 27 [(0, .ref x0), (1, .ref x1), (4, .int g170), (5, .ref (dN D 4)), (6, .int g171), (7, .int g172), (8, .int g173), (9, .int g174), (10, .int g174), (12, .int g175), (14, .int out), (17, .int g176), (18, .int g177), (19, .ref g178), (20, .double g179), (24, .ref g180), (25, .ref g181), (26, .ref g182)]), W p l e R_J13___kernel_rem_pio2 s m A below meth c H locs 4 80 Q (F0 m 590 ls [])), W p l e R_J13___kernel_rem_pio2 s m A below meth c H locs 4 80 Q (F0 m 567 ls []) := by
  have _h := hS0
  obtain ⟨hx, hb, hr, hlk, hml, hown, hts, hnm⟩ := id hC
  intro n
  induction n with
  | zero => intro v168 v169 out h; unfold f_J13___kernel_rem_pio2_567 at h; cases h
  | succ n ih =>
    intro v168 v169 out h H locs hS hF h_x0 h_x1 hq1 hq2 hq3 hq4 ls hl K
    unfold f_J13___kernel_rem_pio2_567 at h
    refine lv_iload hx hb dJ13___kernel_rem_pio2_567 (lv_at hl 10 rfl) ?_
    refine lv_iload hx hb dJ13___kernel_rem_pio2_569 (lv_at hl 8 rfl) ?_
    refine lv_icmp_lt (tgt := 590) hx hb dJ13___kernel_rem_pio2_571 (by decide) (fun c189 => ?_) (fun c189 => ?_)
    · have h := it_pos h c189
      obtain rfl := Option.some.inj h
      exact K H locs hS hF h_x0 h_x1 hq1 hq2 hq3 hq4 ls (lv_sub hl [0, 1, 2, 3, 4, 5, 6, 7, 8, 9, 11, 12, 13, 14, 15, 16, 17, 18] rfl)
    · have h := it_neg h c189
      refine lv_iload hx hb dJ13___kernel_rem_pio2_574 (lv_at hl 11 rfl) ?_
      refine lv_aload hx hb dJ13___kernel_rem_pio2_576 (lv_at hl 14 rfl) ?_
      refine lv_iload hx hb dJ13___kernel_rem_pio2_578 (lv_at hl 10 rfl) ?_
      obtain ⟨i190, xi190, h⟩ := gd_step (by decide) h
      refine r_iald hx hb hS hq1 i190 xi190 dJ13___kernel_rem_pio2_580 ?_
      obtain ⟨v191, ev191, h⟩ := lti_step h
      refine r_nmI ev191 ?_
      obtain ⟨v192, ev192, h⟩ := lti_step h
      refine r_ior hx hb ev192 dJ13___kernel_rem_pio2_581 ?_
      refine lv_istore (lv' := [(14, .int v192), (0, .ref x0), (1, .ref x1), (4, .int g170), (5, .ref (dN D 4)), (6, .int g171), (7, .int g172), (8, .int g173), (9, .int g174), (10, .int g174), (12, .int g175), (13, .int v168), (17, .int g176), (18, .int g177), (19, .ref g178), (20, .double g179), (24, .ref g180), (25, .ref g181), (26, .ref g182)]) hx hb dJ13___kernel_rem_pio2_582 hl (by decide) rfl (fun ls hl => ?_)
      obtain ⟨v193, ev193, h⟩ := lti_step h
      refine lv_iinc (v := v193) (lv' := [(13, .int v193), (14, .int v192), (0, .ref x0), (1, .ref x1), (4, .int g170), (5, .ref (dN D 4)), (6, .int g171), (7, .int g172), (8, .int g173), (9, .int g174), (10, .int g174), (12, .int g175), (17, .int g176), (18, .int g177), (19, .ref g178), (20, .double g179), (24, .ref g180), (25, .ref g181), (26, .ref g182)]) hx hb dJ13___kernel_rem_pio2_584 hl (k := 11) rfl (by rw [ev193]; rfl) (by decide) rfl (fun ls hl => ?_)
      refine lv_goto (tgt := 567) hx hb dJ13___kernel_rem_pio2_587 (by decide) ?_
      exact ih v193 v192 out h H locs hS hF h_x0 h_x1 hq1 hq2 hq3 hq4 ls (lv_sub hl [2, 3, 4, 5, 6, 7, 8, 9, 10, 11, 0, 1, 12, 13, 14, 15, 16, 17, 18] rfl) K
noncomputable def f_J13___kernel_rem_pio2_598 (g197 : Int32) (g198 : Int32) (g199 : Int32) (g200 : Int32) (g201 : Int32) (g202 : Int32) (g207 : Nat → UInt64) (g208 : Nat → UInt64) (g209 : Nat → Int32) (g210 : Nat → UInt64) (g211 : Nat → UInt64) (g212 : Nat → UInt64) : Nat → Int32 → Option (Int32)
  | 0, _ => none
  | n + 1, v196 =>
    lti (g201 - v196) fun v213 =>
    gd 20 v213 fun i214 =>
    lti (g209 i214) fun v215 =>
    (if v215 = 0 then
      lti (v196 + 1) fun v217 =>
      f_J13___kernel_rem_pio2_598 g197 g198 g199 g200 g201 g202 g207 g208 g209 g210 g211 g212 n v217
    else
      some (v196)
    )
set_option maxHeartbeats 4000000 in
set_option maxRecDepth 100000 in
theorem b_J13___kernel_rem_pio2_598 {p : Program} {l : Launch} {e : Env} {s : State} {m : MethodId} {below : List Frame} {meth : Method} {c : Code} {D : DD} {A : Array Value} {Q : State → Prop} (hC : Cx p s m A meth c yJ13___kernel_rem_pio2 cJ13___kernel_rem_pio2 27 (some .int)) (hS0 : St D s s.heap []) {x0 : Nat} {x1 : Nat} {g197 : Int32} {g198 : Int32} {g199 : Int32} {g200 : Int32} {g201 : Int32} {g202 : Int32} {g203 : Nat} {g204 : Nat} {g205 : Nat} {g206 : Nat} {g207 : Nat → UInt64} {g208 : Nat → UInt64} {g209 : Nat → Int32} {g210 : Nat → UInt64} {g211 : Nat → UInt64} {g212 : Nat → UInt64} (ne_x0_x1 : x0 ≠ x1) (ne_h_x0_hq1 : x0 ≠ g203) (ne_h_x1_hq1 : x1 ≠ g203) (ne_h_x0_hq2 : x0 ≠ g204) (ne_h_x1_hq2 : x1 ≠ g204) (ne_hq1_hq2 : g203 ≠ g204) (ne_h_x0_hq3 : x0 ≠ g205) (ne_h_x1_hq3 : x1 ≠ g205) (ne_hq1_hq3 : g203 ≠ g205) (ne_hq2_hq3 : g204 ≠ g205) (ne_h_x0_hq4 : x0 ≠ g206) (ne_h_x1_hq4 : x1 ≠ g206) (ne_hq1_hq4 : g203 ≠ g206) (ne_hq2_hq4 : g204 ≠ g206) (ne_hq3_hq4 : g205 ≠ g206) (gq1 : s.heap.size ≤ g203) (gq2 : s.heap.size ≤ g204) (gq3 : s.heap.size ≤ g205) (gq4 : s.heap.size ≤ g206) (hB_h_x1 : dB D ≤ x1) (hB_hq1 : dB D ≤ g203) (hB_hq2 : dB D ≤ g204) (hB_hq3 : dB D ≤ g205) (hB_hq4 : dB D ≤ g206) : ∀ (n : Nat) (v196 : Int32) (out : Int32) (h : f_J13___kernel_rem_pio2_598 g197 g198 g199 g200 g201 g202 g207 g208 g209 g210 g211 g212 n v196 = some out) (H : Heap) (locs : List Loc) (hS : St D s H locs) (hF : Off (fun a => a = x1) s.heap H) (h_x0 : aD D x0 3 g207 H) (h_x1 : aD D x1 2 g208 H) (hq1 : aI D g203 20 g209 H) (hq2 : aD D g204 20 g210 H) (hq3 : aD D g205 20 g211 H) (hq4 : aD D g206 20 g212 H) (ls : Array Slot) (hl : lv_has ls 27 [(0, .ref x0), (1, .ref x1), (4, .int g197), (5, .ref (dN D 4)), (6, .int g198), (7, .int g199), (8, .int g200), (9, .int g201), (10, .int g201), (15, .int v196), (17, .int g202), (19, .ref g203), (24, .ref g204), (25, .ref g205), (26, .ref g206)]) (K : ∀ (H : Heap) (locs : List Loc) (hS : St D s H locs) (hF : Off (fun a => a = x1) s.heap H) (h_x0 : aD D x0 3 g207 H) (h_x1 : aD D x1 2 g208 H) (hq1 : aI D g203 20 g209 H) (hq2 : aD D g204 20 g210 H) (hq3 : aD D g205 20 g211 H) (hq4 : aD D g206 20 g212 H) (ls : Array Slot) (hl : lv_has ls 27 [(0, .ref x0), (1, .ref x1), (4, .int g197), (5, .ref (dN D 4)), (6, .int g198), (7, .int g199), (8, .int g200), (9, .int g201), (10, .int g201), (15, .int out), (17, .int g202), (19, .ref g203), (24, .ref g204), (25, .ref g205), (26, .ref g206)]), W p l e R_J13___kernel_rem_pio2 s m A below meth c H locs 4 80 Q (F0 m 615 ls [])), W p l e R_J13___kernel_rem_pio2 s m A below meth c H locs 4 80 Q (F0 m 598 ls []) := by
  have _h := hS0
  obtain ⟨hx, hb, hr, hlk, hml, hown, hts, hnm⟩ := id hC
  intro n
  induction n with
  | zero => intro v196 out h; unfold f_J13___kernel_rem_pio2_598 at h; cases h
  | succ n ih =>
    intro v196 out h H locs hS hF h_x0 h_x1 hq1 hq2 hq3 hq4 ls hl K
    unfold f_J13___kernel_rem_pio2_598 at h
    refine lv_aload hx hb dJ13___kernel_rem_pio2_598 (lv_at hl 11 rfl) ?_
    refine lv_iload hx hb dJ13___kernel_rem_pio2_600 (lv_at hl 8 rfl) ?_
    refine lv_iload hx hb dJ13___kernel_rem_pio2_602 (lv_at hl 9 rfl) ?_
    obtain ⟨v213, ev213, h⟩ := lti_step h
    refine r_isub hx hb ev213 dJ13___kernel_rem_pio2_604 ?_
    obtain ⟨i214, xi214, h⟩ := gd_step (by decide) h
    refine r_iald hx hb hS hq1 i214 xi214 dJ13___kernel_rem_pio2_605 ?_
    obtain ⟨v215, ev215, h⟩ := lti_step h
    refine r_nmI ev215 ?_
    refine lv_if_ne (tgt := 615) hx hb dJ13___kernel_rem_pio2_606 (by decide) (fun c216 => ?_) (fun c216 => ?_)
    · have h := it_neg h c216
      obtain rfl := Option.some.inj h
      exact K H locs hS hF h_x0 h_x1 hq1 hq2 hq3 hq4 ls (lv_sub hl [0, 1, 2, 3, 4, 5, 6, 7, 8, 9, 10, 11, 12, 13, 14] rfl)
    · have h := it_pos h c216
      obtain ⟨v217, ev217, h⟩ := lti_step h
      refine lv_iinc (v := v217) (lv' := [(15, .int v217), (0, .ref x0), (1, .ref x1), (4, .int g197), (5, .ref (dN D 4)), (6, .int g198), (7, .int g199), (8, .int g200), (9, .int g201), (10, .int g201), (17, .int g202), (19, .ref g203), (24, .ref g204), (25, .ref g205), (26, .ref g206)]) hx hb dJ13___kernel_rem_pio2_609 hl (k := 9) rfl (by rw [ev217]; rfl) (by decide) rfl (fun ls hl => ?_)
      refine lv_goto (tgt := 598) hx hb dJ13___kernel_rem_pio2_612 (by decide) ?_
      exact ih v217 out h H locs hS hF h_x0 h_x1 hq1 hq2 hq3 hq4 ls (lv_sub hl [1, 2, 3, 4, 5, 6, 7, 8, 9, 0, 10, 11, 12, 13, 14] rfl) K
noncomputable def f_J13___kernel_rem_pio2_654 (g249 : Int32) (g250 : Int32) (g251 : Int32) (g252 : Int32) (g253 : Int32) (g254 : Int32) (g255 : Int32) (g256 : Int32) (g261 : Nat → UInt64) (g262 : Nat → UInt64) (g263 : Nat → Int32) (g264 : Nat → UInt64) (g265 : Nat → UInt64) (g266 : Nat → UInt64) : Nat → Int32 → UInt64 → Option (UInt64)
  | 0, _, _ => none
  | n + 1, v247, v248 =>
    (if g251 < v247 then
      some (v248)
    else
      gd 3 v247 fun i268 =>
      ltd (g261 i268) fun v269 =>
      lti (g251 + g254) fun v270 =>
      lti (v270 - v247) fun v271 =>
      gd 20 v271 fun i272 =>
      ltd (g264 i272) fun v273 =>
      ck (dmulF v269 v273) fun v274 =>
      ck (daddF v248 v274) fun v275 =>
      lti (v247 + 1) fun v276 =>
      f_J13___kernel_rem_pio2_654 g249 g250 g251 g252 g253 g254 g255 g256 g261 g262 g263 g264 g265 g266 n v276 v275
    )
set_option maxHeartbeats 4000000 in
set_option maxRecDepth 100000 in
theorem b_J13___kernel_rem_pio2_654 {p : Program} {l : Launch} {e : Env} {s : State} {m : MethodId} {below : List Frame} {meth : Method} {c : Code} {D : DD} {A : Array Value} {Q : State → Prop} (hC : Cx p s m A meth c yJ13___kernel_rem_pio2 cJ13___kernel_rem_pio2 27 (some .int)) (hS0 : St D s s.heap []) {x0 : Nat} {x1 : Nat} {g249 : Int32} {g250 : Int32} {g251 : Int32} {g252 : Int32} {g253 : Int32} {g254 : Int32} {g255 : Int32} {g256 : Int32} {g257 : Nat} {g258 : Nat} {g259 : Nat} {g260 : Nat} {g261 : Nat → UInt64} {g262 : Nat → UInt64} {g263 : Nat → Int32} {g264 : Nat → UInt64} {g265 : Nat → UInt64} {g266 : Nat → UInt64} (ne_x0_x1 : x0 ≠ x1) (ne_h_x0_hq1 : x0 ≠ g257) (ne_h_x1_hq1 : x1 ≠ g257) (ne_h_x0_hq2 : x0 ≠ g258) (ne_h_x1_hq2 : x1 ≠ g258) (ne_hq1_hq2 : g257 ≠ g258) (ne_h_x0_hq3 : x0 ≠ g259) (ne_h_x1_hq3 : x1 ≠ g259) (ne_hq1_hq3 : g257 ≠ g259) (ne_hq2_hq3 : g258 ≠ g259) (ne_h_x0_hq4 : x0 ≠ g260) (ne_h_x1_hq4 : x1 ≠ g260) (ne_hq1_hq4 : g257 ≠ g260) (ne_hq2_hq4 : g258 ≠ g260) (ne_hq3_hq4 : g259 ≠ g260) (gq1 : s.heap.size ≤ g257) (gq2 : s.heap.size ≤ g258) (gq3 : s.heap.size ≤ g259) (gq4 : s.heap.size ≤ g260) (hB_h_x1 : dB D ≤ x1) (hB_hq1 : dB D ≤ g257) (hB_hq2 : dB D ≤ g258) (hB_hq3 : dB D ≤ g259) (hB_hq4 : dB D ≤ g260) : ∀ (n : Nat) (v247 : Int32) (v248 : UInt64) (out : UInt64) (h : f_J13___kernel_rem_pio2_654 g249 g250 g251 g252 g253 g254 g255 g256 g261 g262 g263 g264 g265 g266 n v247 v248 = some out) (H : Heap) (locs : List Loc) (hS : St D s H locs) (hF : Off (fun a => a = x1) s.heap H) (h_x0 : aD D x0 3 g261 H) (h_x1 : aD D x1 2 g262 H) (hq1 : aI D g257 20 g263 H) (hq2 : aD D g258 20 g264 H) (hq3 : aD D g259 20 g265 H) (hq4 : aD D g260 20 g266 H) (ls : Array Slot) (hl : lv_has ls 27 [(0, .ref x0), (1, .ref x1), (4, .int g249), (5, .ref (dN D 4)), (6, .int g250), (7, .int g251), (8, .int g252), (9, .int g253), (10, .int g253), (13, .int g254), (14, .int v247), (15, .int g255), (17, .int g256), (19, .ref g257), (22, .double v248), (24, .ref g258), (25, .ref g259), (26, .ref g260)]) (K : ∀ (H : Heap) (locs : List Loc) (hS : St D s H locs) (hF : Off (fun a => a = x1) s.heap H) (h_x0 : aD D x0 3 g261 H) (h_x1 : aD D x1 2 g262 H) (hq1 : aI D g257 20 g263 H) (hq2 : aD D g258 20 g264 H) (hq3 : aD D g259 20 g265 H) (hq4 : aD D g260 20 g266 H) (ls : Array Slot) (hl : lv_has ls 27 [(0, .ref x0), (1, .ref x1), (4, .int g249), (5, .ref (dN D 4)), (6, .int g250), (7, .int g251), (8, .int g252), (9, .int g253), (10, .int g253), (13, .int g254), (15, .int g255), (17, .int g256), (19, .ref g257), (22, .double out), (24, .ref g258), (25, .ref g259), (26, .ref g260)]), W p l e R_J13___kernel_rem_pio2 s m A below meth c H locs 4 80 Q (F0 m 688 ls [])), W p l e R_J13___kernel_rem_pio2 s m A below meth c H locs 4 80 Q (F0 m 654 ls []) := by
  have _h := hS0
  obtain ⟨hx, hb, hr, hlk, hml, hown, hts, hnm⟩ := id hC
  intro n
  induction n with
  | zero => intro v247 v248 out h; unfold f_J13___kernel_rem_pio2_654 at h; cases h
  | succ n ih =>
    intro v247 v248 out h H locs hS hF h_x0 h_x1 hq1 hq2 hq3 hq4 ls hl K
    unfold f_J13___kernel_rem_pio2_654 at h
    refine lv_iload hx hb dJ13___kernel_rem_pio2_654 (lv_at hl 10 rfl) ?_
    refine lv_iload hx hb dJ13___kernel_rem_pio2_656 (lv_at hl 5 rfl) ?_
    refine lv_icmp_gt (tgt := 688) hx hb dJ13___kernel_rem_pio2_658 (by decide) (fun c267 => ?_) (fun c267 => ?_)
    · have h := it_pos h c267
      obtain rfl := Option.some.inj h
      exact K H locs hS hF h_x0 h_x1 hq1 hq2 hq3 hq4 ls (lv_sub hl [0, 1, 2, 3, 4, 5, 6, 7, 8, 9, 11, 12, 13, 14, 15, 16, 17] rfl)
    · have h := it_neg h c267
      refine lv_dload hx hb dJ13___kernel_rem_pio2_661 (lv_at hl 14 rfl) ?_
      refine lv_aload_n hx hb dJ13___kernel_rem_pio2_663 rfl (lv_at hl 0 rfl) ?_
      refine lv_iload hx hb dJ13___kernel_rem_pio2_664 (lv_at hl 10 rfl) ?_
      obtain ⟨i268, xi268, h⟩ := gd_step (by decide) h
      refine r_dald hx hb hS h_x0 i268 xi268 dJ13___kernel_rem_pio2_666 ?_
      obtain ⟨v269, ev269, h⟩ := ltd_step h
      refine r_nmD ev269 ?_
      refine lv_aload hx hb dJ13___kernel_rem_pio2_667 (lv_at hl 15 rfl) ?_
      refine lv_iload hx hb dJ13___kernel_rem_pio2_669 (lv_at hl 5 rfl) ?_
      refine lv_iload hx hb dJ13___kernel_rem_pio2_671 (lv_at hl 9 rfl) ?_
      obtain ⟨v270, ev270, h⟩ := lti_step h
      refine r_iadd hx hb ev270 dJ13___kernel_rem_pio2_673 ?_
      refine lv_iload hx hb dJ13___kernel_rem_pio2_674 (lv_at hl 10 rfl) ?_
      obtain ⟨v271, ev271, h⟩ := lti_step h
      refine r_isub hx hb ev271 dJ13___kernel_rem_pio2_676 ?_
      obtain ⟨i272, xi272, h⟩ := gd_step (by decide) h
      refine r_dald hx hb hS hq2 i272 xi272 dJ13___kernel_rem_pio2_677 ?_
      obtain ⟨v273, ev273, h⟩ := ltd_step h
      refine r_nmD ev273 ?_
      obtain ⟨v274, ev274, nv274, h⟩ := ck_step h
      refine r_dmul hx hb ev274 nv274 dJ13___kernel_rem_pio2_678 ?_
      obtain ⟨v275, ev275, nv275, h⟩ := ck_step h
      refine r_dadd hx hb ev275 nv275 dJ13___kernel_rem_pio2_679 ?_
      refine lv_dstore (lv' := [(22, .double v275), (0, .ref x0), (1, .ref x1), (4, .int g249), (5, .ref (dN D 4)), (6, .int g250), (7, .int g251), (8, .int g252), (9, .int g253), (10, .int g253), (13, .int g254), (14, .int v247), (15, .int g255), (17, .int g256), (19, .ref g257), (24, .ref g258), (25, .ref g259), (26, .ref g260)]) hx hb dJ13___kernel_rem_pio2_680 hl (by decide) rfl (fun ls hl => ?_)
      obtain ⟨v276, ev276, h⟩ := lti_step h
      refine lv_iinc (v := v276) (lv' := [(14, .int v276), (22, .double v275), (0, .ref x0), (1, .ref x1), (4, .int g249), (5, .ref (dN D 4)), (6, .int g250), (7, .int g251), (8, .int g252), (9, .int g253), (10, .int g253), (13, .int g254), (15, .int g255), (17, .int g256), (19, .ref g257), (24, .ref g258), (25, .ref g259), (26, .ref g260)]) hx hb dJ13___kernel_rem_pio2_682 hl (k := 11) rfl (by rw [ev276]; rfl) (by decide) rfl (fun ls hl => ?_)
      refine lv_goto (tgt := 654) hx hb dJ13___kernel_rem_pio2_685 (by decide) ?_
      exact ih v276 v275 out h H locs hS hF h_x0 h_x1 hq1 hq2 hq3 hq4 ls (lv_sub hl [2, 3, 4, 5, 6, 7, 8, 9, 10, 11, 0, 12, 13, 14, 1, 15, 16, 17] rfl) K
noncomputable def f_J13___kernel_rem_pio2_621 (g223 : Int32) (g224 : Int32) (g225 : Int32) (g226 : Int32) (g227 : Int32) (g228 : Int32) (g229 : Int32) (g234 : Nat → UInt64) (g235 : Nat → UInt64) (g236 : Nat → Int32) (g237 : Nat → UInt64) : Nat → Int32 → (Nat → UInt64) → (Nat → UInt64) → Option ((Nat → UInt64) × (Nat → UInt64))
  | 0, _, _, _ => none
  | n + 1, v220, f221, f222 =>
    lti (g224 + g228) fun v238 =>
    (if v238 < v220 then
      some (f221, f222)
    else
      lti (g225 + v220) fun v240 =>
      lti (g226 + v220) fun v241 =>
      gd 66 v241 fun i242 =>
      lti (tb_twoOverPi i242) fun v243 =>
      ltd (i2dF v243) fun v244 =>
      gd 20 v240 fun i245 =>
      lt (va_up f221 i245 v244) fun f246 =>
      Option.bind (f_J13___kernel_rem_pio2_654 g223 g224 g225 g226 g227 v220 g228 g229 g234 g235 g236 f246 g237 f222 64 0 0) fun o277 =>
      gd 20 v220 fun i278 =>
      lt (va_up f222 i278 o277) fun f279 =>
      lti (v220 + 1) fun v280 =>
      f_J13___kernel_rem_pio2_621 g223 g224 g225 g226 g227 g228 g229 g234 g235 g236 g237 n v280 f246 f279
    )
set_option maxHeartbeats 4000000 in
set_option maxRecDepth 100000 in
theorem b_J13___kernel_rem_pio2_621 {p : Program} {l : Launch} {e : Env} {s : State} {m : MethodId} {below : List Frame} {meth : Method} {c : Code} {D : DD} {A : Array Value} {Q : State → Prop} (hC : Cx p s m A meth c yJ13___kernel_rem_pio2 cJ13___kernel_rem_pio2 27 (some .int)) (hS0 : St D s s.heap []) {x0 : Nat} {x1 : Nat} {g223 : Int32} {g224 : Int32} {g225 : Int32} {g226 : Int32} {g227 : Int32} {g228 : Int32} {g229 : Int32} {g230 : Nat} {g231 : Nat} {g232 : Nat} {g233 : Nat} {g234 : Nat → UInt64} {g235 : Nat → UInt64} {g236 : Nat → Int32} {g237 : Nat → UInt64} (ne_x0_x1 : x0 ≠ x1) (ne_h_x0_hq1 : x0 ≠ g230) (ne_h_x1_hq1 : x1 ≠ g230) (ne_h_x0_hq2 : x0 ≠ g231) (ne_h_x1_hq2 : x1 ≠ g231) (ne_hq1_hq2 : g230 ≠ g231) (ne_h_x0_hq3 : x0 ≠ g232) (ne_h_x1_hq3 : x1 ≠ g232) (ne_hq1_hq3 : g230 ≠ g232) (ne_hq2_hq3 : g231 ≠ g232) (ne_h_x0_hq4 : x0 ≠ g233) (ne_h_x1_hq4 : x1 ≠ g233) (ne_hq1_hq4 : g230 ≠ g233) (ne_hq2_hq4 : g231 ≠ g233) (ne_hq3_hq4 : g232 ≠ g233) (gq1 : s.heap.size ≤ g230) (gq2 : s.heap.size ≤ g231) (gq3 : s.heap.size ≤ g232) (gq4 : s.heap.size ≤ g233) (hB_h_x1 : dB D ≤ x1) (hB_hq1 : dB D ≤ g230) (hB_hq2 : dB D ≤ g231) (hB_hq3 : dB D ≤ g232) (hB_hq4 : dB D ≤ g233) : ∀ (n : Nat) (v220 : Int32) (f221 : Nat → UInt64) (f222 : Nat → UInt64) (out : (Nat → UInt64) × (Nat → UInt64)) (h : f_J13___kernel_rem_pio2_621 g223 g224 g225 g226 g227 g228 g229 g234 g235 g236 g237 n v220 f221 f222 = some out) (H : Heap) (locs : List Loc) (hS : St D s H locs) (hF : Off (fun a => a = x1) s.heap H) (h_x0 : aD D x0 3 g234 H) (h_x1 : aD D x1 2 g235 H) (hq1 : aI D g230 20 g236 H) (hq2 : aD D g231 20 f221 H) (hq3 : aD D g232 20 g237 H) (hq4 : aD D g233 20 f222 H) (ls : Array Slot) (hl : lv_has ls 27 [(0, .ref x0), (1, .ref x1), (4, .int g223), (5, .ref (dN D 4)), (6, .int g224), (7, .int g225), (8, .int g226), (9, .int g227), (10, .int g227), (13, .int v220), (15, .int g228), (17, .int g229), (19, .ref g230), (24, .ref g231), (25, .ref g232), (26, .ref g233)]) (K : ∀ (H : Heap) (locs : List Loc) (hS : St D s H locs) (hF : Off (fun a => a = x1) s.heap H) (h_x0 : aD D x0 3 g234 H) (h_x1 : aD D x1 2 g235 H) (hq1 : aI D g230 20 g236 H) (hq2 : aD D g231 20 out.1 H) (hq3 : aD D g232 20 g237 H) (hq4 : aD D g233 20 out.2 H) (ls : Array Slot) (hl : lv_has ls 27 [(0, .ref x0), (1, .ref x1), (4, .int g223), (5, .ref (dN D 4)), (6, .int g224), (7, .int g225), (8, .int g226), (9, .int g227), (10, .int g227), (15, .int g228), (17, .int g229), (19, .ref g230), (24, .ref g231), (25, .ref g232), (26, .ref g233)]), W p l e R_J13___kernel_rem_pio2 s m A below meth c H locs 4 80 Q (F0 m 701 ls [])), W p l e R_J13___kernel_rem_pio2 s m A below meth c H locs 4 80 Q (F0 m 621 ls []) := by
  have _h := hS0
  obtain ⟨hx, hb, hr, hlk, hml, hown, hts, hnm⟩ := id hC
  intro n
  induction n with
  | zero => intro v220 f221 f222 out h; unfold f_J13___kernel_rem_pio2_621 at h; cases h
  | succ n ih =>
    intro v220 f221 f222 out h H locs hS hF h_x0 h_x1 hq1 hq2 hq3 hq4 ls hl K
    unfold f_J13___kernel_rem_pio2_621 at h
    refine lv_iload hx hb dJ13___kernel_rem_pio2_621 (lv_at hl 9 rfl) ?_
    refine lv_iload hx hb dJ13___kernel_rem_pio2_623 (lv_at hl 4 rfl) ?_
    refine lv_iload hx hb dJ13___kernel_rem_pio2_625 (lv_at hl 10 rfl) ?_
    obtain ⟨v238, ev238, h⟩ := lti_step h
    refine r_iadd hx hb ev238 dJ13___kernel_rem_pio2_627 ?_
    refine lv_icmp_gt (tgt := 701) hx hb dJ13___kernel_rem_pio2_628 (by decide) (fun c239 => ?_) (fun c239 => ?_)
    · have h := it_pos h c239
      obtain rfl := Option.some.inj h
      exact K H locs hS hF h_x0 h_x1 hq1 hq2 hq3 hq4 ls (lv_sub hl [0, 1, 2, 3, 4, 5, 6, 7, 8, 10, 11, 12, 13, 14, 15] rfl)
    · have h := it_neg h c239
      refine lv_aload hx hb dJ13___kernel_rem_pio2_631 (lv_at hl 13 rfl) ?_
      refine lv_iload hx hb dJ13___kernel_rem_pio2_633 (lv_at hl 5 rfl) ?_
      refine lv_iload hx hb dJ13___kernel_rem_pio2_635 (lv_at hl 9 rfl) ?_
      obtain ⟨v240, ev240, h⟩ := lti_step h
      refine r_iadd hx hb ev240 dJ13___kernel_rem_pio2_637 ?_
      refine lv_aload hx hb dJ13___kernel_rem_pio2_638 (lv_at hl 3 rfl) ?_
      refine lv_iload hx hb dJ13___kernel_rem_pio2_640 (lv_at hl 6 rfl) ?_
      refine lv_iload hx hb dJ13___kernel_rem_pio2_642 (lv_at hl 9 rfl) ?_
      obtain ⟨v241, ev241, h⟩ := lti_step h
      refine r_iadd hx hb ev241 dJ13___kernel_rem_pio2_644 ?_
      obtain ⟨i242, xi242, h⟩ := gd_step (by decide) h
      refine r_iald hx hb hS (hS.1.RA hS.1.1.2.2.2.1.2.2.2.2.1) i242 xi242 dJ13___kernel_rem_pio2_645 ?_
      obtain ⟨v243, ev243, h⟩ := lti_step h
      refine r_nmI ev243 ?_
      obtain ⟨v244, ev244, h⟩ := ltd_step h
      refine r_i2d hx hb ev244 dJ13___kernel_rem_pio2_646 ?_
      obtain ⟨i245, xi245, h⟩ := gd_step (by decide) h
      obtain ⟨f246, ef246, h⟩ := lt_step h
      refine r_dast hx hb hS hq2 hB_hq2 i245 xi245 dJ13___kernel_rem_pio2_647 (fun H locs hS hO hq2 => ?_)
      have hq2 : aD D g231 20 f246 H := by rw [ef246]; exact hq2
      have h_x0 := h_x0.off hO ne_h_x0_hq2
      have h_x1 := h_x1.off hO ne_h_x1_hq2
      have hq1 := hq1.off hO ne_hq1_hq2
      have hq3 := hq3.off hO (Ne.symm ne_hq2_hq3)
      have hq4 := hq4.off hO (Ne.symm ne_hq2_hq4)
      have hF := hF.fresh hO (fun a ha z => absurd (z ▸ ha) (Nat.not_lt.mpr gq2))
      refine lv_iconst (v := 0) hx hb dJ13___kernel_rem_pio2_648 (by decide) ?_
      refine lv_istore (lv' := [(14, .int 0), (0, .ref x0), (1, .ref x1), (4, .int g223), (5, .ref (dN D 4)), (6, .int g224), (7, .int g225), (8, .int g226), (9, .int g227), (10, .int g227), (13, .int v220), (15, .int g228), (17, .int g229), (19, .ref g230), (24, .ref g231), (25, .ref g232), (26, .ref g233)]) hx hb dJ13___kernel_rem_pio2_649 hl (by decide) rfl (fun ls hl => ?_)
      refine lv_dconst0 hx hb dJ13___kernel_rem_pio2_651 ?_
      refine lv_dstore (lv' := [(22, .double 0), (14, .int 0), (0, .ref x0), (1, .ref x1), (4, .int g223), (5, .ref (dN D 4)), (6, .int g224), (7, .int g225), (8, .int g226), (9, .int g227), (10, .int g227), (13, .int v220), (15, .int g228), (17, .int g229), (19, .ref g230), (24, .ref g231), (25, .ref g232), (26, .ref g233)]) hx hb dJ13___kernel_rem_pio2_652 hl (by decide) rfl (fun ls hl => ?_)
      obtain ⟨o277, eo277, h⟩ := bind_step h
      refine b_J13___kernel_rem_pio2_654 hC hS0 ne_x0_x1 ne_h_x0_hq1 ne_h_x1_hq1 ne_h_x0_hq2 ne_h_x1_hq2 ne_hq1_hq2 ne_h_x0_hq3 ne_h_x1_hq3 ne_hq1_hq3 ne_hq2_hq3 ne_h_x0_hq4 ne_h_x1_hq4 ne_hq1_hq4 ne_hq2_hq4 ne_hq3_hq4 gq1 gq2 gq3 gq4 hB_h_x1 hB_hq1 hB_hq2 hB_hq3 hB_hq4 64 0 0 o277 eo277 H locs hS hF h_x0 h_x1 hq1 hq2 hq3 hq4 ls (lv_sub hl [2, 3, 4, 5, 6, 7, 8, 9, 10, 11, 1, 12, 13, 14, 0, 15, 16, 17] rfl) (fun H locs hS hF h_x0 h_x1 hq1 hq2 hq3 hq4 ls hl => ?_)
      refine lv_aload hx hb dJ13___kernel_rem_pio2_688 (lv_at hl 16 rfl) ?_
      refine lv_iload hx hb dJ13___kernel_rem_pio2_690 (lv_at hl 9 rfl) ?_
      refine lv_dload hx hb dJ13___kernel_rem_pio2_692 (lv_at hl 13 rfl) ?_
      obtain ⟨i278, xi278, h⟩ := gd_step (by decide) h
      obtain ⟨f279, ef279, h⟩ := lt_step h
      refine r_dast hx hb hS hq4 hB_hq4 i278 xi278 dJ13___kernel_rem_pio2_694 (fun H locs hS hO hq4 => ?_)
      have hq4 : aD D g233 20 f279 H := by rw [ef279]; exact hq4
      have h_x0 := h_x0.off hO ne_h_x0_hq4
      have h_x1 := h_x1.off hO ne_h_x1_hq4
      have hq1 := hq1.off hO ne_hq1_hq4
      have hq2 := hq2.off hO ne_hq2_hq4
      have hq3 := hq3.off hO ne_hq3_hq4
      have hF := hF.fresh hO (fun a ha z => absurd (z ▸ ha) (Nat.not_lt.mpr gq4))
      obtain ⟨v280, ev280, h⟩ := lti_step h
      refine lv_iinc (v := v280) (lv' := [(13, .int v280), (0, .ref x0), (1, .ref x1), (4, .int g223), (5, .ref (dN D 4)), (6, .int g224), (7, .int g225), (8, .int g226), (9, .int g227), (10, .int g227), (15, .int g228), (17, .int g229), (19, .ref g230), (22, .double o277), (24, .ref g231), (25, .ref g232), (26, .ref g233)]) hx hb dJ13___kernel_rem_pio2_695 hl (k := 9) rfl (by rw [ev280]; rfl) (by decide) rfl (fun ls hl => ?_)
      refine lv_goto (tgt := 621) hx hb dJ13___kernel_rem_pio2_698 (by decide) ?_
      exact ih v280 f246 f279 out h H locs hS hF h_x0 h_x1 hq1 hq2 hq3 hq4 ls (lv_sub hl [1, 2, 3, 4, 5, 6, 7, 8, 9, 0, 10, 11, 12, 14, 15, 16] rfl) K
noncomputable def f_J13___kernel_rem_pio2_405 (g288 : Int32) (g289 : Int32) (g290 : Int32) (g291 : Int32) (g292 : Int32) (g293 : Int32) (g294 : Int32) (g295 : Int32) (g297 : UInt64) (g301 : Nat → UInt64) (g302 : Nat → UInt64) (g303 : Nat → UInt64) (g304 : Nat → UInt64) (g305 : Nat → UInt64) : Nat → Int32 → Int32 → (Nat → Int32) → Option (Int32 × (Nat → Int32))
  | 0, _, _, _ => none
  | n + 1, v285, v286, f287 =>
    (if g289 ≤ v286 then
      some (v285, f287)
    else
      gd 20 v286 fun i307 =>
      lti (f287 i307) fun v308 =>
      lt (fun (v309 : Int32) (f310 : Nat → Int32) =>
      lti (v286 + 1) fun v312 =>
      f_J13___kernel_rem_pio2_405 g288 g289 g290 g291 g292 g293 g294 g295 g297 g301 g302 g303 g304 g305 n v309 v312 f310
      ) fun K311 =>
      (if v285 = 0 then
        (if v308 = 0 then
          K311 v285 f287
        else
          lti (16777216 - v308) fun v318 =>
          gd 20 v286 fun i319 =>
          lt (va_up f287 i319 v318) fun f320 =>
          K311 1 f320
        )
      else
        lti (16777215 - v308) fun v314 =>
        gd 20 v286 fun i315 =>
        lt (va_up f287 i315 v314) fun f316 =>
        K311 v285 f316
      )
    )
set_option maxHeartbeats 4000000 in
set_option maxRecDepth 100000 in
theorem b_J13___kernel_rem_pio2_405 {p : Program} {l : Launch} {e : Env} {s : State} {m : MethodId} {below : List Frame} {meth : Method} {c : Code} {D : DD} {A : Array Value} {Q : State → Prop} (hC : Cx p s m A meth c yJ13___kernel_rem_pio2 cJ13___kernel_rem_pio2 27 (some .int)) (hS0 : St D s s.heap []) {x0 : Nat} {x1 : Nat} {g288 : Int32} {g289 : Int32} {g290 : Int32} {g291 : Int32} {g292 : Int32} {g293 : Int32} {g294 : Int32} {g295 : Int32} {g296 : Nat} {g297 : UInt64} {g298 : Nat} {g299 : Nat} {g300 : Nat} {g301 : Nat → UInt64} {g302 : Nat → UInt64} {g303 : Nat → UInt64} {g304 : Nat → UInt64} {g305 : Nat → UInt64} (ne_x0_x1 : x0 ≠ x1) (ne_h_x0_hq1 : x0 ≠ g296) (ne_h_x1_hq1 : x1 ≠ g296) (ne_h_x0_hq2 : x0 ≠ g298) (ne_h_x1_hq2 : x1 ≠ g298) (ne_hq1_hq2 : g296 ≠ g298) (ne_h_x0_hq3 : x0 ≠ g299) (ne_h_x1_hq3 : x1 ≠ g299) (ne_hq1_hq3 : g296 ≠ g299) (ne_hq2_hq3 : g298 ≠ g299) (ne_h_x0_hq4 : x0 ≠ g300) (ne_h_x1_hq4 : x1 ≠ g300) (ne_hq1_hq4 : g296 ≠ g300) (ne_hq2_hq4 : g298 ≠ g300) (ne_hq3_hq4 : g299 ≠ g300) (gq1 : s.heap.size ≤ g296) (gq2 : s.heap.size ≤ g298) (gq3 : s.heap.size ≤ g299) (gq4 : s.heap.size ≤ g300) (hB_h_x1 : dB D ≤ x1) (hB_hq1 : dB D ≤ g296) (hB_hq2 : dB D ≤ g298) (hB_hq3 : dB D ≤ g299) (hB_hq4 : dB D ≤ g300) : ∀ (n : Nat) (v285 : Int32) (v286 : Int32) (f287 : Nat → Int32) (out : Int32 × (Nat → Int32)) (h : f_J13___kernel_rem_pio2_405 g288 g289 g290 g291 g292 g293 g294 g295 g297 g301 g302 g303 g304 g305 n v285 v286 f287 = some out) (H : Heap) (locs : List Loc) (hS : St D s H locs) (hF : Off (fun a => a = x1) s.heap H) (h_x0 : aD D x0 3 g301 H) (h_x1 : aD D x1 2 g302 H) (hq1 : aI D g296 20 f287 H) (hq2 : aD D g298 20 g303 H) (hq3 : aD D g299 20 g304 H) (hq4 : aD D g300 20 g305 H) (ls : Array Slot) (hl : lv_has ls 27 [(0, .ref x0), (1, .ref x1), (4, .int g288), (5, .ref (dN D 4)), (6, .int g289), (7, .int g290), (8, .int g291), (9, .int g292), (10, .int g292), (11, .int v285), (12, .int g293), (13, .int v286), (17, .int g294), (18, .int g295), (19, .ref g296), (20, .double g297), (24, .ref g298), (25, .ref g299), (26, .ref g300)]) (K : ∀ (H : Heap) (locs : List Loc) (hS : St D s H locs) (hF : Off (fun a => a = x1) s.heap H) (h_x0 : aD D x0 3 g301 H) (h_x1 : aD D x1 2 g302 H) (hq1 : aI D g296 20 out.2 H) (hq2 : aD D g298 20 g303 H) (hq3 : aD D g299 20 g304 H) (hq4 : aD D g300 20 g305 H) (ls : Array Slot) (hl : lv_has ls 27 [(0, .ref x0), (1, .ref x1), (4, .int g288), (5, .ref (dN D 4)), (6, .int g289), (7, .int g290), (8, .int g291), (9, .int g292), (10, .int g292), (11, .int out.1), (12, .int g293), (17, .int g294), (18, .int g295), (19, .ref g296), (20, .double g297), (24, .ref g298), (25, .ref g299), (26, .ref g300)]), W p l e R_J13___kernel_rem_pio2 s m A below meth c H locs 4 80 Q (F0 m 461 ls [])), W p l e R_J13___kernel_rem_pio2 s m A below meth c H locs 4 80 Q (F0 m 405 ls []) := by
  have _h := hS0
  obtain ⟨hx, hb, hr, hlk, hml, hown, hts, hnm⟩ := id hC
  intro n
  induction n with
  | zero => intro v285 v286 f287 out h; unfold f_J13___kernel_rem_pio2_405 at h; cases h
  | succ n ih =>
    intro v285 v286 f287 out h H locs hS hF h_x0 h_x1 hq1 hq2 hq3 hq4 ls hl K
    unfold f_J13___kernel_rem_pio2_405 at h
    refine lv_iload hx hb dJ13___kernel_rem_pio2_405 (lv_at hl 11 rfl) ?_
    refine lv_iload hx hb dJ13___kernel_rem_pio2_407 (lv_at hl 4 rfl) ?_
    refine lv_icmp_ge (tgt := 461) hx hb dJ13___kernel_rem_pio2_409 (by decide) (fun c306 => ?_) (fun c306 => ?_)
    · have h := it_pos h c306
      obtain rfl := Option.some.inj h
      exact K H locs hS hF h_x0 h_x1 hq1 hq2 hq3 hq4 ls (lv_sub hl [0, 1, 2, 3, 4, 5, 6, 7, 8, 9, 10, 12, 13, 14, 15, 16, 17, 18] rfl)
    · have h := it_neg h c306
      refine lv_aload hx hb dJ13___kernel_rem_pio2_412 (lv_at hl 14 rfl) ?_
      refine lv_iload hx hb dJ13___kernel_rem_pio2_414 (lv_at hl 11 rfl) ?_
      obtain ⟨i307, xi307, h⟩ := gd_step (by decide) h
      refine r_iald hx hb hS hq1 i307 xi307 dJ13___kernel_rem_pio2_416 ?_
      obtain ⟨v308, ev308, h⟩ := lti_step h
      refine r_nmI ev308 ?_
      refine lv_istore (lv' := [(14, .int v308), (0, .ref x0), (1, .ref x1), (4, .int g288), (5, .ref (dN D 4)), (6, .int g289), (7, .int g290), (8, .int g291), (9, .int g292), (10, .int g292), (11, .int v285), (12, .int g293), (13, .int v286), (17, .int g294), (18, .int g295), (19, .ref g296), (20, .double g297), (24, .ref g298), (25, .ref g299), (26, .ref g300)]) hx hb dJ13___kernel_rem_pio2_417 hl (by decide) rfl (fun ls hl => ?_)
      refine lv_iload hx hb dJ13___kernel_rem_pio2_419 (lv_at hl 10 rfl) ?_
      obtain ⟨K311, eK311, h⟩ := lt_step h
      have HK311 : ∀ (v309 : Int32) (f310 : Nat → Int32) (h : K311 v309 f310 = some out) (H : Heap) (locs : List Loc) (hS : St D s H locs) (hF : Off (fun a => a = x1) s.heap H) (h_x0 : aD D x0 3 g301 H) (h_x1 : aD D x1 2 g302 H) (hq1 : aI D g296 20 f310 H) (hq2 : aD D g298 20 g303 H) (hq3 : aD D g299 20 g304 H) (hq4 : aD D g300 20 g305 H) (ls : Array Slot) (hl : lv_has ls 27 [(0, .ref x0), (1, .ref x1), (4, .int g288), (5, .ref (dN D 4)), (6, .int g289), (7, .int g290), (8, .int g291), (9, .int g292), (10, .int g292), (11, .int v309), (12, .int g293), (13, .int v286), (17, .int g294), (18, .int g295), (19, .ref g296), (20, .double g297), (24, .ref g298), (25, .ref g299), (26, .ref g300)]), W p l e R_J13___kernel_rem_pio2 s m A below meth c H locs 4 80 Q (F0 m 455 ls []) := by
        intro v309 f310 h H locs hS hF h_x0 h_x1 hq1 hq2 hq3 hq4 ls hl
        subst eK311
        obtain ⟨v312, ev312, h⟩ := lti_step h
        refine lv_iinc (v := v312) (lv' := [(13, .int v312), (0, .ref x0), (1, .ref x1), (4, .int g288), (5, .ref (dN D 4)), (6, .int g289), (7, .int g290), (8, .int g291), (9, .int g292), (10, .int g292), (11, .int v309), (12, .int g293), (17, .int g294), (18, .int g295), (19, .ref g296), (20, .double g297), (24, .ref g298), (25, .ref g299), (26, .ref g300)]) hx hb dJ13___kernel_rem_pio2_455 hl (k := 11) rfl (by rw [ev312]; rfl) (by decide) rfl (fun ls hl => ?_)
        refine lv_goto (tgt := 405) hx hb dJ13___kernel_rem_pio2_458 (by decide) ?_
        exact ih v309 v312 f310 out h H locs hS hF h_x0 h_x1 hq1 hq2 hq3 hq4 ls (lv_sub hl [1, 2, 3, 4, 5, 6, 7, 8, 9, 10, 11, 0, 12, 13, 14, 15, 16, 17, 18] rfl) K
      clear eK311
      refine lv_if_ne (tgt := 445) hx hb dJ13___kernel_rem_pio2_421 (by decide) (fun c313 => ?_) (fun c313 => ?_)
      · have h := it_neg h c313
        refine lv_aload hx hb dJ13___kernel_rem_pio2_445 (lv_at hl 15 rfl) ?_
        refine lv_iload hx hb dJ13___kernel_rem_pio2_447 (lv_at hl 12 rfl) ?_
        refine lv_ldc hx hb (v := 16777215) hown (hts _ q293) dJ13___kernel_rem_pio2_449 ?_
        refine lv_iload hx hb dJ13___kernel_rem_pio2_451 (lv_at hl 0 rfl) ?_
        obtain ⟨v314, ev314, h⟩ := lti_step h
        refine r_isub hx hb ev314 dJ13___kernel_rem_pio2_453 ?_
        obtain ⟨i315, xi315, h⟩ := gd_step (by decide) h
        obtain ⟨f316, ef316, h⟩ := lt_step h
        refine r_iast hx hb hS hq1 hB_hq1 i315 xi315 dJ13___kernel_rem_pio2_454 (fun H locs hS hO hq1 => ?_)
        have hq1 : aI D g296 20 f316 H := by rw [ef316]; exact hq1
        have h_x0 := h_x0.off hO ne_h_x0_hq1
        have h_x1 := h_x1.off hO ne_h_x1_hq1
        have hq2 := hq2.off hO (Ne.symm ne_hq1_hq2)
        have hq3 := hq3.off hO (Ne.symm ne_hq1_hq3)
        have hq4 := hq4.off hO (Ne.symm ne_hq1_hq4)
        have hF := hF.fresh hO (fun a ha z => absurd (z ▸ ha) (Nat.not_lt.mpr gq1))
        exact HK311 v285 f316 h H locs hS hF h_x0 h_x1 hq1 hq2 hq3 hq4 ls (lv_sub hl [1, 2, 3, 4, 5, 6, 7, 8, 9, 10, 11, 12, 13, 14, 15, 16, 17, 18, 19] rfl)
      · have h := it_pos h c313
        refine lv_iload hx hb dJ13___kernel_rem_pio2_424 (lv_at hl 0 rfl) ?_
        refine lv_if_eq (tgt := 455) hx hb dJ13___kernel_rem_pio2_426 (by decide) (fun c317 => ?_) (fun c317 => ?_)
        · have h := it_pos h c317
          exact HK311 v285 f287 h H locs hS hF h_x0 h_x1 hq1 hq2 hq3 hq4 ls (lv_sub hl [1, 2, 3, 4, 5, 6, 7, 8, 9, 10, 11, 12, 13, 14, 15, 16, 17, 18, 19] rfl)
        · have h := it_neg h c317
          refine lv_iconst (v := 1) hx hb dJ13___kernel_rem_pio2_429 (by decide) ?_
          refine lv_istore (lv' := [(11, .int 1), (14, .int v308), (0, .ref x0), (1, .ref x1), (4, .int g288), (5, .ref (dN D 4)), (6, .int g289), (7, .int g290), (8, .int g291), (9, .int g292), (10, .int g292), (12, .int g293), (13, .int v286), (17, .int g294), (18, .int g295), (19, .ref g296), (20, .double g297), (24, .ref g298), (25, .ref g299), (26, .ref g300)]) hx hb dJ13___kernel_rem_pio2_430 hl (by decide) rfl (fun ls hl => ?_)
          refine lv_aload hx hb dJ13___kernel_rem_pio2_432 (lv_at hl 15 rfl) ?_
          refine lv_iload hx hb dJ13___kernel_rem_pio2_434 (lv_at hl 12 rfl) ?_
          refine lv_ldc hx hb (v := 16777216) hown (hts _ q292) dJ13___kernel_rem_pio2_436 ?_
          refine lv_iload hx hb dJ13___kernel_rem_pio2_438 (lv_at hl 1 rfl) ?_
          obtain ⟨v318, ev318, h⟩ := lti_step h
          refine r_isub hx hb ev318 dJ13___kernel_rem_pio2_440 ?_
          obtain ⟨i319, xi319, h⟩ := gd_step (by decide) h
          obtain ⟨f320, ef320, h⟩ := lt_step h
          refine r_iast hx hb hS hq1 hB_hq1 i319 xi319 dJ13___kernel_rem_pio2_441 (fun H locs hS hO hq1 => ?_)
          have hq1 : aI D g296 20 f320 H := by rw [ef320]; exact hq1
          have h_x0 := h_x0.off hO ne_h_x0_hq1
          have h_x1 := h_x1.off hO ne_h_x1_hq1
          have hq2 := hq2.off hO (Ne.symm ne_hq1_hq2)
          have hq3 := hq3.off hO (Ne.symm ne_hq1_hq3)
          have hq4 := hq4.off hO (Ne.symm ne_hq1_hq4)
          have hF := hF.fresh hO (fun a ha z => absurd (z ▸ ha) (Nat.not_lt.mpr gq1))
          refine lv_goto (tgt := 455) hx hb dJ13___kernel_rem_pio2_442 (by decide) ?_
          exact HK311 1 f320 h H locs hS hF h_x0 h_x1 hq1 hq2 hq3 hq4 ls (lv_sub hl [2, 3, 4, 5, 6, 7, 8, 9, 10, 0, 11, 12, 13, 14, 15, 16, 17, 18, 19] rfl)
noncomputable def f_J13___kernel_rem_pio2_188 (g100 : Int32) (g101 : Int32) (g102 : Int32) (g103 : Int32) (g104 : Int32) (g109 : Nat → UInt64) (g110 : Nat → UInt64) (g111 : Nat → UInt64) : Nat → Int32 → (Nat → Int32) → (Nat → UInt64) → (Nat → UInt64) → Option (Int32 × Int32 × Int32 × UInt64 × (Nat → Int32) × (Nat → UInt64) × (Nat → UInt64))
  | 0, _, _, _, _ => none
  | n + 1, v96, f97, f98, f99 =>
    gd 20 v96 fun i112 =>
    ltd (f99 i112) fun v113 =>
    Option.bind (f_J13___kernel_rem_pio2_202 g100 v96 g101 g102 g103 g104 g109 g110 f98 g111 f99 64 0 v96 v113 f97) fun o148 =>
    Option.bind (f_J12_scalb o148.1 g104) fun o149 =>
    ck (dmulF o149 4593671619917905920) fun v150 =>
    Option.bind (f_J6_floor v150) fun o151 =>
    ck o151 fun o151w =>
    ck (dmulF 4620693217682128896 o151w) fun v152 =>
    ck (dsubF o149 v152) fun v153 =>
    lti (d2iF v153) fun v154 =>
    ltd (i2dF v154) fun v155 =>
    ck (dsubF v153 v155) fun v156 =>
    lt (fun (v157 : Int32) (v158 : Int32) (f159 : Nat → Int32) =>
    lt (fun (v161 : Int32) (v162 : UInt64) (f163 : Nat → Int32) =>
    lti (dcmpF v162 0 .l) fun v165 =>
    (if v165 = 0 then
      lti (v96 - 1) fun v167 =>
      Option.bind (f_J13___kernel_rem_pio2_567 g100 v96 g101 g102 g103 v161 g104 v158 v162 g109 g110 f163 f98 g111 f99 64 v167 0) fun o194 =>
      (if o194 = 0 then
        Option.bind (f_J13___kernel_rem_pio2_598 g100 v96 g101 g102 g103 g104 g109 g110 f163 f98 g111 f99 64 1) fun o218 =>
        lti (v96 + 1) fun v219 =>
        Option.bind (f_J13___kernel_rem_pio2_621 g100 v96 g101 g102 g103 o218 g104 g109 g110 f163 g111 64 v219 f98 f99) fun o281 =>
        lti (v96 + o218) fun v282 =>
        f_J13___kernel_rem_pio2_188 g100 g101 g102 g103 g104 g109 g110 g111 n v282 f163 o281.1 o281.2
      else
        some (v96, v161, v158, v162, f163, f98, f99)
      )
    else
      some (v96, v161, v158, v162, f163, f98, f99)
    )
    ) fun K164 =>
    (if v158 ≤ 0 then
      K164 v157 v156 f159
    else
      lti (v157 + 1) fun v284 =>
      Option.bind (f_J13___kernel_rem_pio2_405 g100 v96 g101 g102 g103 v284 g104 v158 v156 g109 g110 f98 g111 f99 64 0 0 f159) fun o321 =>
      lt (fun (f322 : Nat → Int32) =>
      (if v158 = 2 then
        ck (dsubF 4607182418800017408 v156) fun v325 =>
        (if o321.1 = 0 then
          K164 v284 v325 f322
        else
          Option.bind (f_J12_scalb 4607182418800017408 g104) fun o327 =>
          ck (dsubF v325 o327) fun v328 =>
          K164 v284 v328 f322
        )
      else
        K164 v284 v156 f322
      )
      ) fun K323 =>
      (if g104 ≤ 0 then
        K323 o321.2
      else
        (if g104 = 1 then
          lti (v96 - 1) fun v331 =>
          gd 20 v331 fun i332 =>
          lti (o321.2 i332) fun v333 =>
          lti (v333 &&& 8388607) fun v334 =>
          gd 20 v331 fun i335 =>
          lt (va_up o321.2 i335 v334) fun f336 =>
          K323 f336
        else
        (if g104 = 2 then
          lti (v96 - 1) fun v338 =>
          gd 20 v338 fun i339 =>
          lti (o321.2 i339) fun v340 =>
          lti (v340 &&& 4194303) fun v341 =>
          gd 20 v338 fun i342 =>
          lt (va_up o321.2 i342 v341) fun f343 =>
          K323 f343
        else
        K323 o321.2
        ))
      )
    )
    ) fun K160 =>
    (if g104 ≤ 0 then
      (if g104 = 0 then
        lti (v96 - 1) fun v348 =>
        gd 20 v348 fun i349 =>
        lti (o148.2 i349) fun v350 =>
        lti (v350 >>> (23 &&& 31)) fun v351 =>
        K160 v154 v351 o148.2
      else
        lti (dcmpF v156 4602678819172646912 .l) fun v346 =>
        (if v346 < 0 then
          K160 v154 0 o148.2
        else
          K160 v154 2 o148.2
        )
      )
    else
      lti (v96 - 1) fun v352 =>
      gd 20 v352 fun i353 =>
      lti (o148.2 i353) fun v354 =>
      lti (24 - g104) fun v355 =>
      lti (v354 >>> (v355 &&& 31)) fun v356 =>
      lti (v154 + v356) fun v357 =>
      lti (v96 - 1) fun v358 =>
      gd 20 v358 fun i359 =>
      lti (o148.2 i359) fun v360 =>
      lti (24 - g104) fun v361 =>
      lti (v356 <<< (v361 &&& 31)) fun v362 =>
      lti (v360 - v362) fun v363 =>
      gd 20 v358 fun i364 =>
      lt (va_up o148.2 i364 v363) fun f365 =>
      lti (v96 - 1) fun v366 =>
      gd 20 v366 fun i367 =>
      lti (f365 i367) fun v368 =>
      lti (23 - g104) fun v369 =>
      lti (v368 >>> (v369 &&& 31)) fun v370 =>
      K160 v357 v370 f365
    )
set_option maxHeartbeats 4000000 in
set_option maxRecDepth 100000 in
theorem b_J13___kernel_rem_pio2_188 {p : Program} {l : Launch} {e : Env} {s : State} {m : MethodId} {below : List Frame} {meth : Method} {c : Code} {D : DD} {A : Array Value} {Q : State → Prop} (hC : Cx p s m A meth c yJ13___kernel_rem_pio2 cJ13___kernel_rem_pio2 27 (some .int)) (hS0 : St D s s.heap []) {x0 : Nat} {x1 : Nat} {g100 : Int32} {g101 : Int32} {g102 : Int32} {g103 : Int32} {g104 : Int32} {g105 : Nat} {g106 : Nat} {g107 : Nat} {g108 : Nat} {g109 : Nat → UInt64} {g110 : Nat → UInt64} {g111 : Nat → UInt64} (ne_x0_x1 : x0 ≠ x1) (ne_h_x0_hq1 : x0 ≠ g105) (ne_h_x1_hq1 : x1 ≠ g105) (ne_h_x0_hq2 : x0 ≠ g106) (ne_h_x1_hq2 : x1 ≠ g106) (ne_hq1_hq2 : g105 ≠ g106) (ne_h_x0_hq3 : x0 ≠ g107) (ne_h_x1_hq3 : x1 ≠ g107) (ne_hq1_hq3 : g105 ≠ g107) (ne_hq2_hq3 : g106 ≠ g107) (ne_h_x0_hq4 : x0 ≠ g108) (ne_h_x1_hq4 : x1 ≠ g108) (ne_hq1_hq4 : g105 ≠ g108) (ne_hq2_hq4 : g106 ≠ g108) (ne_hq3_hq4 : g107 ≠ g108) (gq1 : s.heap.size ≤ g105) (gq2 : s.heap.size ≤ g106) (gq3 : s.heap.size ≤ g107) (gq4 : s.heap.size ≤ g108) (hB_h_x1 : dB D ≤ x1) (hB_hq1 : dB D ≤ g105) (hB_hq2 : dB D ≤ g106) (hB_hq3 : dB D ≤ g107) (hB_hq4 : dB D ≤ g108) : ∀ (n : Nat) (v96 : Int32) (f97 : Nat → Int32) (f98 : Nat → UInt64) (f99 : Nat → UInt64) (out : Int32 × Int32 × Int32 × UInt64 × (Nat → Int32) × (Nat → UInt64) × (Nat → UInt64)) (h : f_J13___kernel_rem_pio2_188 g100 g101 g102 g103 g104 g109 g110 g111 n v96 f97 f98 f99 = some out) (H : Heap) (locs : List Loc) (hS : St D s H locs) (hF : Off (fun a => a = x1) s.heap H) (h_x0 : aD D x0 3 g109 H) (h_x1 : aD D x1 2 g110 H) (hq1 : aI D g105 20 f97 H) (hq2 : aD D g106 20 f98 H) (hq3 : aD D g107 20 g111 H) (hq4 : aD D g108 20 f99 H) (ls : Array Slot) (hl : lv_has ls 27 [(0, .ref x0), (1, .ref x1), (4, .int g100), (5, .ref (dN D 4)), (6, .int v96), (7, .int g101), (8, .int g102), (9, .int g103), (10, .int g103), (17, .int g104), (19, .ref g105), (24, .ref g106), (25, .ref g107), (26, .ref g108)]) (K : ∀ (H : Heap) (locs : List Loc) (hS : St D s H locs) (hF : Off (fun a => a = x1) s.heap H) (h_x0 : aD D x0 3 g109 H) (h_x1 : aD D x1 2 g110 H) (hq1 : aI D g105 20 out.2.2.2.2.1 H) (hq2 : aD D g106 20 out.2.2.2.2.2.1 H) (hq3 : aD D g107 20 g111 H) (hq4 : aD D g108 20 out.2.2.2.2.2.2 H) (ls : Array Slot) (hl : lv_has ls 27 [(1, .ref x1), (4, .int g100), (6, .int out.1), (9, .int g103), (12, .int out.2.1), (17, .int g104), (18, .int out.2.2.1), (19, .ref g105), (20, .double out.2.2.2.1), (25, .ref g107), (26, .ref g108)]), W p l e R_J13___kernel_rem_pio2 s m A below meth c H locs 4 80 Q (F0 m 711 ls [])), W p l e R_J13___kernel_rem_pio2 s m A below meth c H locs 4 80 Q (F0 m 188 ls []) := by
  have _h := hS0
  obtain ⟨hx, hb, hr, hlk, hml, hown, hts, hnm⟩ := id hC
  intro n
  induction n with
  | zero => intro v96 f97 f98 f99 out h; unfold f_J13___kernel_rem_pio2_188 at h; cases h
  | succ n ih =>
    intro v96 f97 f98 f99 out h H locs hS hF h_x0 h_x1 hq1 hq2 hq3 hq4 ls hl K
    unfold f_J13___kernel_rem_pio2_188 at h
    refine lv_iconst (v := 0) hx hb dJ13___kernel_rem_pio2_188 (by decide) ?_
    refine lv_istore (lv' := [(13, .int 0), (0, .ref x0), (1, .ref x1), (4, .int g100), (5, .ref (dN D 4)), (6, .int v96), (7, .int g101), (8, .int g102), (9, .int g103), (10, .int g103), (17, .int g104), (19, .ref g105), (24, .ref g106), (25, .ref g107), (26, .ref g108)]) hx hb dJ13___kernel_rem_pio2_189 hl (by decide) rfl (fun ls hl => ?_)
    refine lv_iload hx hb dJ13___kernel_rem_pio2_191 (lv_at hl 5 rfl) ?_
    refine lv_istore (lv' := [(14, .int v96), (13, .int 0), (0, .ref x0), (1, .ref x1), (4, .int g100), (5, .ref (dN D 4)), (6, .int v96), (7, .int g101), (8, .int g102), (9, .int g103), (10, .int g103), (17, .int g104), (19, .ref g105), (24, .ref g106), (25, .ref g107), (26, .ref g108)]) hx hb dJ13___kernel_rem_pio2_193 hl (by decide) rfl (fun ls hl => ?_)
    refine lv_aload hx hb dJ13___kernel_rem_pio2_195 (lv_at hl 15 rfl) ?_
    refine lv_iload hx hb dJ13___kernel_rem_pio2_197 (lv_at hl 6 rfl) ?_
    obtain ⟨i112, xi112, h⟩ := gd_step (by decide) h
    refine r_dald hx hb hS hq4 i112 xi112 dJ13___kernel_rem_pio2_199 ?_
    obtain ⟨v113, ev113, h⟩ := ltd_step h
    refine r_nmD ev113 ?_
    refine lv_dstore (lv' := [(20, .double v113), (14, .int v96), (13, .int 0), (0, .ref x0), (1, .ref x1), (4, .int g100), (5, .ref (dN D 4)), (6, .int v96), (7, .int g101), (8, .int g102), (9, .int g103), (10, .int g103), (17, .int g104), (19, .ref g105), (24, .ref g106), (25, .ref g107), (26, .ref g108)]) hx hb dJ13___kernel_rem_pio2_200 hl (by decide) rfl (fun ls hl => ?_)
    obtain ⟨o148, eo148, h⟩ := bind_step h
    refine b_J13___kernel_rem_pio2_202 hC hS0 ne_x0_x1 ne_h_x0_hq1 ne_h_x1_hq1 ne_h_x0_hq2 ne_h_x1_hq2 ne_hq1_hq2 ne_h_x0_hq3 ne_h_x1_hq3 ne_hq1_hq3 ne_hq2_hq3 ne_h_x0_hq4 ne_h_x1_hq4 ne_hq1_hq4 ne_hq2_hq4 ne_hq3_hq4 gq1 gq2 gq3 gq4 hB_h_x1 hB_hq1 hB_hq2 hB_hq3 hB_hq4 64 0 v96 v113 f97 o148 eo148 H locs hS hF h_x0 h_x1 hq1 hq2 hq3 hq4 ls (lv_sub hl [3, 4, 5, 6, 7, 8, 9, 10, 11, 2, 1, 12, 13, 0, 14, 15, 16] rfl) (fun H locs hS hF h_x0 h_x1 hq1 hq2 hq3 hq4 ls hl => ?_)
    refine lv_dload hx hb dJ13___kernel_rem_pio2_253 (lv_at hl 11 rfl) ?_
    refine lv_iload hx hb dJ13___kernel_rem_pio2_255 (lv_at hl 9 rfl) ?_
    obtain ⟨o149, eo149, h⟩ := bind_step h
    refine r_cp (r_runS (rest := []) (As := [.double o148.1, .int g104]) hC 2 (m_J12_scalb o148.1 g104  o149 eo149) q249 q250 q53 q251 hd_J12_scalb rfl ⟨Nat.le_of_ble_eq_true rfl, Nat.le_of_ble_eq_true rfl⟩ hS trivial hl.1 rfl (Nat.le_of_ble_eq_true rfl) dJ13___kernel_rem_pio2_257 ⟨Nat.le_of_ble_eq_true rfl, Nat.le_of_ble_eq_true rfl⟩) ?_
    refine lv_dstore (lv' := [(20, .double o149), (0, .ref x0), (1, .ref x1), (4, .int g100), (5, .ref (dN D 4)), (6, .int v96), (7, .int g101), (8, .int g102), (9, .int g103), (10, .int g103), (17, .int g104), (19, .ref g105), (24, .ref g106), (25, .ref g107), (26, .ref g108)]) hx hb dJ13___kernel_rem_pio2_260 hl (by decide) rfl (fun ls hl => ?_)
    refine lv_dload hx hb dJ13___kernel_rem_pio2_262 (lv_at hl 0 rfl) ?_
    refine lv_ldc2d hx hb (v := 4620693217682128896) hown (hts _ q270) dJ13___kernel_rem_pio2_264 ?_
    refine lv_dload hx hb dJ13___kernel_rem_pio2_267 (lv_at hl 0 rfl) ?_
    refine lv_ldc2d hx hb (v := 4593671619917905920) hown (hts _ q271) dJ13___kernel_rem_pio2_269 ?_
    obtain ⟨v150, ev150, nv150, h⟩ := ck_step h
    refine r_dmul hx hb ev150 nv150 dJ13___kernel_rem_pio2_272 ?_
    obtain ⟨o151, eo151, h⟩ := bind_step h
    obtain ⟨o151w, eo151_2, no151, h⟩ := ck_step h
    rw [← eo151_2] at eo151
    refine r_dfloor hC hS (r := o151w) (m_J6_floor _ _ eo151) no151 q272 q273 q53 q274 hl.1 (Nat.le_of_ble_eq_true rfl) ⟨Nat.le_of_ble_eq_true rfl, Nat.le_of_ble_eq_true rfl⟩ ⟨Nat.le_of_ble_eq_true rfl, Nat.le_of_ble_eq_true rfl⟩ dJ13___kernel_rem_pio2_273 ?_
    obtain ⟨v152, ev152, nv152, h⟩ := ck_step h
    refine r_dmul hx hb ev152 nv152 dJ13___kernel_rem_pio2_276 ?_
    obtain ⟨v153, ev153, nv153, h⟩ := ck_step h
    refine r_dsub hx hb ev153 nv153 dJ13___kernel_rem_pio2_277 ?_
    refine lv_dstore (lv' := [(20, .double v153), (0, .ref x0), (1, .ref x1), (4, .int g100), (5, .ref (dN D 4)), (6, .int v96), (7, .int g101), (8, .int g102), (9, .int g103), (10, .int g103), (17, .int g104), (19, .ref g105), (24, .ref g106), (25, .ref g107), (26, .ref g108)]) hx hb dJ13___kernel_rem_pio2_278 hl (by decide) rfl (fun ls hl => ?_)
    refine lv_dload hx hb dJ13___kernel_rem_pio2_280 (lv_at hl 0 rfl) ?_
    obtain ⟨v154, ev154, h⟩ := lti_step h
    refine r_d2i hx hb ev154 dJ13___kernel_rem_pio2_282 ?_
    refine lv_istore (lv' := [(12, .int v154), (20, .double v153), (0, .ref x0), (1, .ref x1), (4, .int g100), (5, .ref (dN D 4)), (6, .int v96), (7, .int g101), (8, .int g102), (9, .int g103), (10, .int g103), (17, .int g104), (19, .ref g105), (24, .ref g106), (25, .ref g107), (26, .ref g108)]) hx hb dJ13___kernel_rem_pio2_283 hl (by decide) rfl (fun ls hl => ?_)
    refine lv_dload hx hb dJ13___kernel_rem_pio2_285 (lv_at hl 1 rfl) ?_
    refine lv_iload hx hb dJ13___kernel_rem_pio2_287 (lv_at hl 0 rfl) ?_
    obtain ⟨v155, ev155, h⟩ := ltd_step h
    refine r_i2d hx hb ev155 dJ13___kernel_rem_pio2_289 ?_
    obtain ⟨v156, ev156, nv156, h⟩ := ck_step h
    refine r_dsub hx hb ev156 nv156 dJ13___kernel_rem_pio2_290 ?_
    refine lv_dstore (lv' := [(20, .double v156), (12, .int v154), (0, .ref x0), (1, .ref x1), (4, .int g100), (5, .ref (dN D 4)), (6, .int v96), (7, .int g101), (8, .int g102), (9, .int g103), (10, .int g103), (17, .int g104), (19, .ref g105), (24, .ref g106), (25, .ref g107), (26, .ref g108)]) hx hb dJ13___kernel_rem_pio2_291 hl (by decide) rfl (fun ls hl => ?_)
    refine lv_iconst (v := 0) hx hb dJ13___kernel_rem_pio2_293 (by decide) ?_
    refine lv_istore (lv' := [(18, .int 0), (20, .double v156), (12, .int v154), (0, .ref x0), (1, .ref x1), (4, .int g100), (5, .ref (dN D 4)), (6, .int v96), (7, .int g101), (8, .int g102), (9, .int g103), (10, .int g103), (17, .int g104), (19, .ref g105), (24, .ref g106), (25, .ref g107), (26, .ref g108)]) hx hb dJ13___kernel_rem_pio2_294 hl (by decide) rfl (fun ls hl => ?_)
    refine lv_iload hx hb dJ13___kernel_rem_pio2_296 (lv_at hl 12 rfl) ?_
    obtain ⟨K160, eK160, h⟩ := lt_step h
    have HK160 : ∀ (v157 : Int32) (v158 : Int32) (f159 : Nat → Int32) (h : K160 v157 v158 f159 = some out) (H : Heap) (locs : List Loc) (hS : St D s H locs) (hF : Off (fun a => a = x1) s.heap H) (h_x0 : aD D x0 3 g109 H) (h_x1 : aD D x1 2 g110 H) (hq1 : aI D g105 20 f159 H) (hq2 : aD D g106 20 f98 H) (hq3 : aD D g107 20 g111 H) (hq4 : aD D g108 20 f99 H) (ls : Array Slot) (hl : lv_has ls 27 [(0, .ref x0), (1, .ref x1), (4, .int g100), (5, .ref (dN D 4)), (6, .int v96), (7, .int g101), (8, .int g102), (9, .int g103), (10, .int g103), (12, .int v157), (17, .int g104), (18, .int v158), (19, .ref g105), (20, .double v156), (24, .ref g106), (25, .ref g107), (26, .ref g108)]), W p l e R_J13___kernel_rem_pio2 s m A below meth c H locs 4 80 Q (F0 m 391 ls []) := by
      intro v157 v158 f159 h H locs hS hF h_x0 h_x1 hq1 hq2 hq3 hq4 ls hl
      subst eK160
      refine lv_iload hx hb dJ13___kernel_rem_pio2_391 (lv_at hl 11 rfl) ?_
      obtain ⟨K164, eK164, h⟩ := lt_step h
      have HK164 : ∀ (v161 : Int32) (v162 : UInt64) (f163 : Nat → Int32) (h : K164 v161 v162 f163 = some out) (H : Heap) (locs : List Loc) (hS : St D s H locs) (hF : Off (fun a => a = x1) s.heap H) (h_x0 : aD D x0 3 g109 H) (h_x1 : aD D x1 2 g110 H) (hq1 : aI D g105 20 f163 H) (hq2 : aD D g106 20 f98 H) (hq3 : aD D g107 20 g111 H) (hq4 : aD D g108 20 f99 H) (ls : Array Slot) (hl : lv_has ls 27 [(0, .ref x0), (1, .ref x1), (4, .int g100), (5, .ref (dN D 4)), (6, .int v96), (7, .int g101), (8, .int g102), (9, .int g103), (10, .int g103), (12, .int v161), (17, .int g104), (18, .int v158), (19, .ref g105), (20, .double v162), (24, .ref g106), (25, .ref g107), (26, .ref g108)]), W p l e R_J13___kernel_rem_pio2 s m A below meth c H locs 4 80 Q (F0 m 551 ls []) := by
        intro v161 v162 f163 h H locs hS hF h_x0 h_x1 hq1 hq2 hq3 hq4 ls hl
        subst eK164
        refine lv_dload hx hb dJ13___kernel_rem_pio2_551 (lv_at hl 13 rfl) ?_
        refine lv_dconst0 hx hb dJ13___kernel_rem_pio2_553 ?_
        obtain ⟨v165, ev165, h⟩ := lti_step h
        refine r_dcmp hx hb ev165 dJ13___kernel_rem_pio2_554 ?_
        refine lv_if_ne (tgt := 711) hx hb dJ13___kernel_rem_pio2_555 (by decide) (fun c166 => ?_) (fun c166 => ?_)
        · have h := it_neg h c166
          obtain rfl := Option.some.inj h
          exact K H locs hS hF h_x0 h_x1 hq1 hq2 hq3 hq4 ls (lv_sub hl [1, 2, 4, 7, 9, 10, 11, 12, 13, 15, 16] rfl)
        · have h := it_pos h c166
          refine lv_iconst (v := 0) hx hb dJ13___kernel_rem_pio2_558 (by decide) ?_
          refine lv_istore (lv' := [(14, .int 0), (0, .ref x0), (1, .ref x1), (4, .int g100), (5, .ref (dN D 4)), (6, .int v96), (7, .int g101), (8, .int g102), (9, .int g103), (10, .int g103), (12, .int v161), (17, .int g104), (18, .int v158), (19, .ref g105), (20, .double v162), (24, .ref g106), (25, .ref g107), (26, .ref g108)]) hx hb dJ13___kernel_rem_pio2_559 hl (by decide) rfl (fun ls hl => ?_)
          refine lv_iload hx hb dJ13___kernel_rem_pio2_561 (lv_at hl 5 rfl) ?_
          refine lv_iconst (v := 1) hx hb dJ13___kernel_rem_pio2_563 (by decide) ?_
          obtain ⟨v167, ev167, h⟩ := lti_step h
          refine r_isub hx hb ev167 dJ13___kernel_rem_pio2_564 ?_
          refine lv_istore (lv' := [(13, .int v167), (14, .int 0), (0, .ref x0), (1, .ref x1), (4, .int g100), (5, .ref (dN D 4)), (6, .int v96), (7, .int g101), (8, .int g102), (9, .int g103), (10, .int g103), (12, .int v161), (17, .int g104), (18, .int v158), (19, .ref g105), (20, .double v162), (24, .ref g106), (25, .ref g107), (26, .ref g108)]) hx hb dJ13___kernel_rem_pio2_565 hl (by decide) rfl (fun ls hl => ?_)
          obtain ⟨o194, eo194, h⟩ := bind_step h
          refine b_J13___kernel_rem_pio2_567 hC hS0 ne_x0_x1 ne_h_x0_hq1 ne_h_x1_hq1 ne_h_x0_hq2 ne_h_x1_hq2 ne_hq1_hq2 ne_h_x0_hq3 ne_h_x1_hq3 ne_hq1_hq3 ne_hq2_hq3 ne_h_x0_hq4 ne_h_x1_hq4 ne_hq1_hq4 ne_hq2_hq4 ne_hq3_hq4 gq1 gq2 gq3 gq4 hB_h_x1 hB_hq1 hB_hq2 hB_hq3 hB_hq4 64 v167 0 o194 eo194 H locs hS hF h_x0 h_x1 hq1 hq2 hq3 hq4 ls (lv_sub hl [2, 3, 4, 5, 6, 7, 8, 9, 10, 11, 0, 1, 12, 13, 14, 15, 16, 17, 18] rfl) (fun H locs hS hF h_x0 h_x1 hq1 hq2 hq3 hq4 ls hl => ?_)
          refine lv_iload hx hb dJ13___kernel_rem_pio2_590 (lv_at hl 10 rfl) ?_
          refine lv_if_ne (tgt := 711) hx hb dJ13___kernel_rem_pio2_592 (by decide) (fun c195 => ?_) (fun c195 => ?_)
          · have h := it_neg h c195
            obtain rfl := Option.some.inj h
            exact K H locs hS hF h_x0 h_x1 hq1 hq2 hq3 hq4 ls (lv_sub hl [1, 2, 4, 7, 9, 11, 12, 13, 14, 16, 17] rfl)
          · have h := it_pos h c195
            refine lv_iconst (v := 1) hx hb dJ13___kernel_rem_pio2_595 (by decide) ?_
            refine lv_istore (lv' := [(15, .int 1), (0, .ref x0), (1, .ref x1), (4, .int g100), (5, .ref (dN D 4)), (6, .int v96), (7, .int g101), (8, .int g102), (9, .int g103), (10, .int g103), (12, .int v161), (14, .int o194), (17, .int g104), (18, .int v158), (19, .ref g105), (20, .double v162), (24, .ref g106), (25, .ref g107), (26, .ref g108)]) hx hb dJ13___kernel_rem_pio2_596 hl (by decide) rfl (fun ls hl => ?_)
            obtain ⟨o218, eo218, h⟩ := bind_step h
            refine b_J13___kernel_rem_pio2_598 hC hS0 ne_x0_x1 ne_h_x0_hq1 ne_h_x1_hq1 ne_h_x0_hq2 ne_h_x1_hq2 ne_hq1_hq2 ne_h_x0_hq3 ne_h_x1_hq3 ne_hq1_hq3 ne_hq2_hq3 ne_h_x0_hq4 ne_h_x1_hq4 ne_hq1_hq4 ne_hq2_hq4 ne_hq3_hq4 gq1 gq2 gq3 gq4 hB_h_x1 hB_hq1 hB_hq2 hB_hq3 hB_hq4 64 1 o218 eo218 H locs hS hF h_x0 h_x1 hq1 hq2 hq3 hq4 ls (lv_sub hl [1, 2, 3, 4, 5, 6, 7, 8, 9, 0, 12, 14, 16, 17, 18] rfl) (fun H locs hS hF h_x0 h_x1 hq1 hq2 hq3 hq4 ls hl => ?_)
            refine lv_iload hx hb dJ13___kernel_rem_pio2_615 (lv_at hl 4 rfl) ?_
            refine lv_iconst (v := 1) hx hb dJ13___kernel_rem_pio2_617 (by decide) ?_
            obtain ⟨v219, ev219, h⟩ := lti_step h
            refine r_iadd hx hb ev219 dJ13___kernel_rem_pio2_618 ?_
            refine lv_istore (lv' := [(13, .int v219), (0, .ref x0), (1, .ref x1), (4, .int g100), (5, .ref (dN D 4)), (6, .int v96), (7, .int g101), (8, .int g102), (9, .int g103), (10, .int g103), (15, .int o218), (17, .int g104), (19, .ref g105), (24, .ref g106), (25, .ref g107), (26, .ref g108)]) hx hb dJ13___kernel_rem_pio2_619 hl (by decide) rfl (fun ls hl => ?_)
            obtain ⟨o281, eo281, h⟩ := bind_step h
            refine b_J13___kernel_rem_pio2_621 hC hS0 ne_x0_x1 ne_h_x0_hq1 ne_h_x1_hq1 ne_h_x0_hq2 ne_h_x1_hq2 ne_hq1_hq2 ne_h_x0_hq3 ne_h_x1_hq3 ne_hq1_hq3 ne_hq2_hq3 ne_h_x0_hq4 ne_h_x1_hq4 ne_hq1_hq4 ne_hq2_hq4 ne_hq3_hq4 gq1 gq2 gq3 gq4 hB_h_x1 hB_hq1 hB_hq2 hB_hq3 hB_hq4 64 v219 f98 f99 o281 eo281 H locs hS hF h_x0 h_x1 hq1 hq2 hq3 hq4 ls (lv_sub hl [1, 2, 3, 4, 5, 6, 7, 8, 9, 0, 10, 11, 12, 13, 14, 15] rfl) (fun H locs hS hF h_x0 h_x1 hq1 hq2 hq3 hq4 ls hl => ?_)
            refine lv_iload hx hb dJ13___kernel_rem_pio2_701 (lv_at hl 4 rfl) ?_
            refine lv_iload hx hb dJ13___kernel_rem_pio2_703 (lv_at hl 9 rfl) ?_
            obtain ⟨v282, ev282, h⟩ := lti_step h
            refine r_iadd hx hb ev282 dJ13___kernel_rem_pio2_705 ?_
            refine lv_istore (lv' := [(6, .int v282), (0, .ref x0), (1, .ref x1), (4, .int g100), (5, .ref (dN D 4)), (7, .int g101), (8, .int g102), (9, .int g103), (10, .int g103), (15, .int o218), (17, .int g104), (19, .ref g105), (24, .ref g106), (25, .ref g107), (26, .ref g108)]) hx hb dJ13___kernel_rem_pio2_706 hl (by decide) rfl (fun ls hl => ?_)
            refine lv_goto (tgt := 188) hx hb dJ13___kernel_rem_pio2_708 (by decide) ?_
            exact ih v282 f163 o281.1 o281.2 out h H locs hS hF h_x0 h_x1 hq1 hq2 hq3 hq4 ls (lv_sub hl [1, 2, 3, 4, 0, 5, 6, 7, 8, 10, 11, 12, 13, 14] rfl) K
      clear eK164
      refine lv_if_le (tgt := 551) hx hb dJ13___kernel_rem_pio2_393 (by decide) (fun c283 => ?_) (fun c283 => ?_)
      · have h := it_pos h c283
        exact HK164 v157 v156 f159 h H locs hS hF h_x0 h_x1 hq1 hq2 hq3 hq4 ls (lv_sub hl [0, 1, 2, 3, 4, 5, 6, 7, 8, 9, 10, 11, 12, 13, 14, 15, 16] rfl)
      · have h := it_neg h c283
        obtain ⟨v284, ev284, h⟩ := lti_step h
        refine lv_iinc (v := v284) (lv' := [(12, .int v284), (0, .ref x0), (1, .ref x1), (4, .int g100), (5, .ref (dN D 4)), (6, .int v96), (7, .int g101), (8, .int g102), (9, .int g103), (10, .int g103), (17, .int g104), (18, .int v158), (19, .ref g105), (20, .double v156), (24, .ref g106), (25, .ref g107), (26, .ref g108)]) hx hb dJ13___kernel_rem_pio2_396 hl (k := 9) rfl (by rw [ev284]; rfl) (by decide) rfl (fun ls hl => ?_)
        refine lv_iconst (v := 0) hx hb dJ13___kernel_rem_pio2_399 (by decide) ?_
        refine lv_istore (lv' := [(11, .int 0), (12, .int v284), (0, .ref x0), (1, .ref x1), (4, .int g100), (5, .ref (dN D 4)), (6, .int v96), (7, .int g101), (8, .int g102), (9, .int g103), (10, .int g103), (17, .int g104), (18, .int v158), (19, .ref g105), (20, .double v156), (24, .ref g106), (25, .ref g107), (26, .ref g108)]) hx hb dJ13___kernel_rem_pio2_400 hl (by decide) rfl (fun ls hl => ?_)
        refine lv_iconst (v := 0) hx hb dJ13___kernel_rem_pio2_402 (by decide) ?_
        refine lv_istore (lv' := [(13, .int 0), (11, .int 0), (12, .int v284), (0, .ref x0), (1, .ref x1), (4, .int g100), (5, .ref (dN D 4)), (6, .int v96), (7, .int g101), (8, .int g102), (9, .int g103), (10, .int g103), (17, .int g104), (18, .int v158), (19, .ref g105), (20, .double v156), (24, .ref g106), (25, .ref g107), (26, .ref g108)]) hx hb dJ13___kernel_rem_pio2_403 hl (by decide) rfl (fun ls hl => ?_)
        obtain ⟨o321, eo321, h⟩ := bind_step h
        refine b_J13___kernel_rem_pio2_405 hC hS0 ne_x0_x1 ne_h_x0_hq1 ne_h_x1_hq1 ne_h_x0_hq2 ne_h_x1_hq2 ne_hq1_hq2 ne_h_x0_hq3 ne_h_x1_hq3 ne_hq1_hq3 ne_hq2_hq3 ne_h_x0_hq4 ne_h_x1_hq4 ne_hq1_hq4 ne_hq2_hq4 ne_hq3_hq4 gq1 gq2 gq3 gq4 hB_h_x1 hB_hq1 hB_hq2 hB_hq3 hB_hq4 64 0 0 f159 o321 eo321 H locs hS hF h_x0 h_x1 hq1 hq2 hq3 hq4 ls (lv_sub hl [3, 4, 5, 6, 7, 8, 9, 10, 11, 1, 2, 0, 12, 13, 14, 15, 16, 17, 18] rfl) (fun H locs hS hF h_x0 h_x1 hq1 hq2 hq3 hq4 ls hl => ?_)
        refine lv_iload hx hb dJ13___kernel_rem_pio2_461 (lv_at hl 11 rfl) ?_
        obtain ⟨K323, eK323, h⟩ := lt_step h
        have HK323 : ∀ (f322 : Nat → Int32) (h : K323 f322 = some out) (H : Heap) (locs : List Loc) (hS : St D s H locs) (hF : Off (fun a => a = x1) s.heap H) (h_x0 : aD D x0 3 g109 H) (h_x1 : aD D x1 2 g110 H) (hq1 : aI D g105 20 f322 H) (hq2 : aD D g106 20 f98 H) (hq3 : aD D g107 20 g111 H) (hq4 : aD D g108 20 f99 H) (ls : Array Slot) (hl : lv_has ls 27 [(0, .ref x0), (1, .ref x1), (4, .int g100), (5, .ref (dN D 4)), (6, .int v96), (7, .int g101), (8, .int g102), (9, .int g103), (10, .int g103), (11, .int o321.1), (12, .int v284), (17, .int g104), (18, .int v158), (19, .ref g105), (20, .double v156), (24, .ref g106), (25, .ref g107), (26, .ref g108)]), W p l e R_J13___kernel_rem_pio2 s m A below meth c H locs 4 80 Q (F0 m 523 ls []) := by
          intro f322 h H locs hS hF h_x0 h_x1 hq1 hq2 hq3 hq4 ls hl
          subst eK323
          refine lv_iload hx hb dJ13___kernel_rem_pio2_523 (lv_at hl 12 rfl) ?_
          refine lv_iconst (v := 2) hx hb dJ13___kernel_rem_pio2_525 (by decide) ?_
          refine lv_icmp_ne (tgt := 551) hx hb dJ13___kernel_rem_pio2_526 (by decide) (fun c324 => ?_) (fun c324 => ?_)
          · have h := it_neg h c324
            exact HK164 v284 v156 f322 h H locs hS hF h_x0 h_x1 hq1 hq2 hq3 hq4 ls (lv_sub hl [0, 1, 2, 3, 4, 5, 6, 7, 8, 10, 11, 12, 13, 14, 15, 16, 17] rfl)
          · have h := it_pos h c324
            refine lv_dconst1 hx hb dJ13___kernel_rem_pio2_529 ?_
            refine lv_dload hx hb dJ13___kernel_rem_pio2_530 (lv_at hl 14 rfl) ?_
            obtain ⟨v325, ev325, nv325, h⟩ := ck_step h
            refine r_dsub hx hb ev325 nv325 dJ13___kernel_rem_pio2_532 ?_
            refine lv_dstore (lv' := [(20, .double v325), (0, .ref x0), (1, .ref x1), (4, .int g100), (5, .ref (dN D 4)), (6, .int v96), (7, .int g101), (8, .int g102), (9, .int g103), (10, .int g103), (11, .int o321.1), (12, .int v284), (17, .int g104), (18, .int v158), (19, .ref g105), (24, .ref g106), (25, .ref g107), (26, .ref g108)]) hx hb dJ13___kernel_rem_pio2_533 hl (by decide) rfl (fun ls hl => ?_)
            refine lv_iload hx hb dJ13___kernel_rem_pio2_535 (lv_at hl 10 rfl) ?_
            refine lv_if_eq (tgt := 551) hx hb dJ13___kernel_rem_pio2_537 (by decide) (fun c326 => ?_) (fun c326 => ?_)
            · have h := it_pos h c326
              exact HK164 v284 v325 f322 h H locs hS hF h_x0 h_x1 hq1 hq2 hq3 hq4 ls (lv_sub hl [1, 2, 3, 4, 5, 6, 7, 8, 9, 11, 12, 13, 14, 0, 15, 16, 17] rfl)
            · have h := it_neg h c326
              refine lv_dload hx hb dJ13___kernel_rem_pio2_540 (lv_at hl 0 rfl) ?_
              refine lv_dconst1 hx hb dJ13___kernel_rem_pio2_542 ?_
              refine lv_iload hx hb dJ13___kernel_rem_pio2_543 (lv_at hl 12 rfl) ?_
              obtain ⟨o327, eo327, h⟩ := bind_step h
              refine r_cp (r_runS (rest := [.double v325]) (As := [.double 4607182418800017408, .int g104]) hC 2 (m_J12_scalb 4607182418800017408 g104  o327 eo327) q249 q250 q53 q251 hd_J12_scalb rfl ⟨Nat.le_of_ble_eq_true rfl, Nat.le_of_ble_eq_true rfl⟩ hS trivial hl.1 rfl (Nat.le_of_ble_eq_true rfl) dJ13___kernel_rem_pio2_545 ⟨Nat.le_of_ble_eq_true rfl, Nat.le_of_ble_eq_true rfl⟩) ?_
              obtain ⟨v328, ev328, nv328, h⟩ := ck_step h
              refine r_dsub hx hb ev328 nv328 dJ13___kernel_rem_pio2_548 ?_
              refine lv_dstore (lv' := [(20, .double v328), (0, .ref x0), (1, .ref x1), (4, .int g100), (5, .ref (dN D 4)), (6, .int v96), (7, .int g101), (8, .int g102), (9, .int g103), (10, .int g103), (11, .int o321.1), (12, .int v284), (17, .int g104), (18, .int v158), (19, .ref g105), (24, .ref g106), (25, .ref g107), (26, .ref g108)]) hx hb dJ13___kernel_rem_pio2_549 hl (by decide) rfl (fun ls hl => ?_)
              exact HK164 v284 v328 f322 h H locs hS hF h_x0 h_x1 hq1 hq2 hq3 hq4 ls (lv_sub hl [1, 2, 3, 4, 5, 6, 7, 8, 9, 11, 12, 13, 14, 0, 15, 16, 17] rfl)
        clear eK323
        refine lv_if_le (tgt := 523) hx hb dJ13___kernel_rem_pio2_463 (by decide) (fun c329 => ?_) (fun c329 => ?_)
        · have h := it_pos h c329
          exact HK323 o321.2 h H locs hS hF h_x0 h_x1 hq1 hq2 hq3 hq4 ls (lv_sub hl [0, 1, 2, 3, 4, 5, 6, 7, 8, 9, 10, 11, 12, 13, 14, 15, 16, 17] rfl)
        · have h := it_neg h c329
          refine lv_iload hx hb dJ13___kernel_rem_pio2_466 (lv_at hl 11 rfl) ?_
          by_cases c330 : g104 = 1
          · have h := it_pos h c330
            refine lv_lookup (off := 28) (tgt := 496) hx hb dJ13___kernel_rem_pio2_468 (by decide) (by rw [c330]; decide) (by decide) ?_
            refine lv_aload hx hb dJ13___kernel_rem_pio2_496 (lv_at hl 13 rfl) ?_
            refine lv_iload hx hb dJ13___kernel_rem_pio2_498 (lv_at hl 4 rfl) ?_
            refine lv_iconst (v := 1) hx hb dJ13___kernel_rem_pio2_500 (by decide) ?_
            obtain ⟨v331, ev331, h⟩ := lti_step h
            refine r_isub hx hb ev331 dJ13___kernel_rem_pio2_501 ?_
            refine lv_dup2_11 hx hb dJ13___kernel_rem_pio2_502 rfl rfl ?_
            obtain ⟨i332, xi332, h⟩ := gd_step (by decide) h
            refine r_iald hx hb hS hq1 i332 xi332 dJ13___kernel_rem_pio2_503 ?_
            obtain ⟨v333, ev333, h⟩ := lti_step h
            refine r_nmI ev333 ?_
            refine lv_ldc hx hb (v := 8388607) hown (hts _ q294) dJ13___kernel_rem_pio2_504 ?_
            obtain ⟨v334, ev334, h⟩ := lti_step h
            refine r_iand hx hb ev334 dJ13___kernel_rem_pio2_506 ?_
            obtain ⟨i335, xi335, h⟩ := gd_step (by decide) h
            obtain ⟨f336, ef336, h⟩ := lt_step h
            refine r_iast hx hb hS hq1 hB_hq1 i335 xi335 dJ13___kernel_rem_pio2_507 (fun H locs hS hO hq1 => ?_)
            have hq1 : aI D g105 20 f336 H := by rw [ef336]; exact hq1
            have h_x0 := h_x0.off hO ne_h_x0_hq1
            have h_x1 := h_x1.off hO ne_h_x1_hq1
            have hq2 := hq2.off hO (Ne.symm ne_hq1_hq2)
            have hq3 := hq3.off hO (Ne.symm ne_hq1_hq3)
            have hq4 := hq4.off hO (Ne.symm ne_hq1_hq4)
            have hF := hF.fresh hO (fun a ha z => absurd (z ▸ ha) (Nat.not_lt.mpr gq1))
            refine lv_goto (tgt := 523) hx hb dJ13___kernel_rem_pio2_508 (by decide) ?_
            exact HK323 f336 h H locs hS hF h_x0 h_x1 hq1 hq2 hq3 hq4 ls (lv_sub hl [0, 1, 2, 3, 4, 5, 6, 7, 8, 9, 10, 11, 12, 13, 14, 15, 16, 17] rfl)
          have h := it_neg h c330
          by_cases c337 : g104 = 2
          · have h := it_pos h c337
            refine lv_lookup (off := 43) (tgt := 511) hx hb dJ13___kernel_rem_pio2_468 (by decide) (by rw [c337]; decide) (by decide) ?_
            refine lv_aload hx hb dJ13___kernel_rem_pio2_511 (lv_at hl 13 rfl) ?_
            refine lv_iload hx hb dJ13___kernel_rem_pio2_513 (lv_at hl 4 rfl) ?_
            refine lv_iconst (v := 1) hx hb dJ13___kernel_rem_pio2_515 (by decide) ?_
            obtain ⟨v338, ev338, h⟩ := lti_step h
            refine r_isub hx hb ev338 dJ13___kernel_rem_pio2_516 ?_
            refine lv_dup2_11 hx hb dJ13___kernel_rem_pio2_517 rfl rfl ?_
            obtain ⟨i339, xi339, h⟩ := gd_step (by decide) h
            refine r_iald hx hb hS hq1 i339 xi339 dJ13___kernel_rem_pio2_518 ?_
            obtain ⟨v340, ev340, h⟩ := lti_step h
            refine r_nmI ev340 ?_
            refine lv_ldc hx hb (v := 4194303) hown (hts _ q295) dJ13___kernel_rem_pio2_519 ?_
            obtain ⟨v341, ev341, h⟩ := lti_step h
            refine r_iand hx hb ev341 dJ13___kernel_rem_pio2_521 ?_
            obtain ⟨i342, xi342, h⟩ := gd_step (by decide) h
            obtain ⟨f343, ef343, h⟩ := lt_step h
            refine r_iast hx hb hS hq1 hB_hq1 i342 xi342 dJ13___kernel_rem_pio2_522 (fun H locs hS hO hq1 => ?_)
            have hq1 : aI D g105 20 f343 H := by rw [ef343]; exact hq1
            have h_x0 := h_x0.off hO ne_h_x0_hq1
            have h_x1 := h_x1.off hO ne_h_x1_hq1
            have hq2 := hq2.off hO (Ne.symm ne_hq1_hq2)
            have hq3 := hq3.off hO (Ne.symm ne_hq1_hq3)
            have hq4 := hq4.off hO (Ne.symm ne_hq1_hq4)
            have hF := hF.fresh hO (fun a ha z => absurd (z ▸ ha) (Nat.not_lt.mpr gq1))
            exact HK323 f343 h H locs hS hF h_x0 h_x1 hq1 hq2 hq3 hq4 ls (lv_sub hl [0, 1, 2, 3, 4, 5, 6, 7, 8, 9, 10, 11, 12, 13, 14, 15, 16, 17] rfl)
          have h := it_neg h c337
          refine lv_lookup (off := 55) (tgt := 523) hx hb dJ13___kernel_rem_pio2_468 (by decide) ((lv_osw (k := 1) c330 (by decide)).trans (lv_osw (k := 2) c337 (by decide))) (by decide) ?_
          exact HK323 o321.2 h H locs hS hF h_x0 h_x1 hq1 hq2 hq3 hq4 ls (lv_sub hl [0, 1, 2, 3, 4, 5, 6, 7, 8, 9, 10, 11, 12, 13, 14, 15, 16, 17] rfl)
    clear eK160
    refine lv_if_le (tgt := 359) hx hb dJ13___kernel_rem_pio2_298 (by decide) (fun c344 => ?_) (fun c344 => ?_)
    · have h := it_pos h c344
      refine lv_iload hx hb dJ13___kernel_rem_pio2_359 (lv_at hl 12 rfl) ?_
      refine lv_if_ne (tgt := 379) hx hb dJ13___kernel_rem_pio2_361 (by decide) (fun c345 => ?_) (fun c345 => ?_)
      · have h := it_neg h c345
        refine lv_dload hx hb dJ13___kernel_rem_pio2_379 (lv_at hl 1 rfl) ?_
        refine lv_ldc2d hx hb (v := 4602678819172646912) hown (hts _ q291) dJ13___kernel_rem_pio2_381 ?_
        obtain ⟨v346, ev346, h⟩ := lti_step h
        refine r_dcmp hx hb ev346 dJ13___kernel_rem_pio2_384 ?_
        refine lv_if_lt (tgt := 391) hx hb dJ13___kernel_rem_pio2_385 (by decide) (fun c347 => ?_) (fun c347 => ?_)
        · have h := it_pos h c347
          exact HK160 v154 0 o148.2 h H locs hS hF h_x0 h_x1 hq1 hq2 hq3 hq4 ls (lv_sub hl [3, 4, 5, 6, 7, 8, 9, 10, 11, 2, 12, 0, 13, 1, 14, 15, 16] rfl)
        · have h := it_neg h c347
          refine lv_iconst (v := 2) hx hb dJ13___kernel_rem_pio2_388 (by decide) ?_
          refine lv_istore (lv' := [(18, .int 2), (20, .double v156), (12, .int v154), (0, .ref x0), (1, .ref x1), (4, .int g100), (5, .ref (dN D 4)), (6, .int v96), (7, .int g101), (8, .int g102), (9, .int g103), (10, .int g103), (17, .int g104), (19, .ref g105), (24, .ref g106), (25, .ref g107), (26, .ref g108)]) hx hb dJ13___kernel_rem_pio2_389 hl (by decide) rfl (fun ls hl => ?_)
          exact HK160 v154 2 o148.2 h H locs hS hF h_x0 h_x1 hq1 hq2 hq3 hq4 ls (lv_sub hl [3, 4, 5, 6, 7, 8, 9, 10, 11, 2, 12, 0, 13, 1, 14, 15, 16] rfl)
      · have h := it_pos h c345
        refine lv_aload hx hb dJ13___kernel_rem_pio2_364 (lv_at hl 13 rfl) ?_
        refine lv_iload hx hb dJ13___kernel_rem_pio2_366 (lv_at hl 7 rfl) ?_
        refine lv_iconst (v := 1) hx hb dJ13___kernel_rem_pio2_368 (by decide) ?_
        obtain ⟨v348, ev348, h⟩ := lti_step h
        refine r_isub hx hb ev348 dJ13___kernel_rem_pio2_369 ?_
        obtain ⟨i349, xi349, h⟩ := gd_step (by decide) h
        refine r_iald hx hb hS hq1 i349 xi349 dJ13___kernel_rem_pio2_370 ?_
        obtain ⟨v350, ev350, h⟩ := lti_step h
        refine r_nmI ev350 ?_
        refine lv_bipush (v := 23) hx hb dJ13___kernel_rem_pio2_371 (by decide) ?_
        obtain ⟨v351, ev351, h⟩ := lti_step h
        refine r_ishr hx hb ev351 dJ13___kernel_rem_pio2_373 ?_
        refine lv_istore (lv' := [(18, .int v351), (20, .double v156), (12, .int v154), (0, .ref x0), (1, .ref x1), (4, .int g100), (5, .ref (dN D 4)), (6, .int v96), (7, .int g101), (8, .int g102), (9, .int g103), (10, .int g103), (17, .int g104), (19, .ref g105), (24, .ref g106), (25, .ref g107), (26, .ref g108)]) hx hb dJ13___kernel_rem_pio2_374 hl (by decide) rfl (fun ls hl => ?_)
        refine lv_goto (tgt := 391) hx hb dJ13___kernel_rem_pio2_376 (by decide) ?_
        exact HK160 v154 v351 o148.2 h H locs hS hF h_x0 h_x1 hq1 hq2 hq3 hq4 ls (lv_sub hl [3, 4, 5, 6, 7, 8, 9, 10, 11, 2, 12, 0, 13, 1, 14, 15, 16] rfl)
    · have h := it_neg h c344
      refine lv_aload hx hb dJ13___kernel_rem_pio2_301 (lv_at hl 13 rfl) ?_
      refine lv_iload hx hb dJ13___kernel_rem_pio2_303 (lv_at hl 7 rfl) ?_
      refine lv_iconst (v := 1) hx hb dJ13___kernel_rem_pio2_305 (by decide) ?_
      obtain ⟨v352, ev352, h⟩ := lti_step h
      refine r_isub hx hb ev352 dJ13___kernel_rem_pio2_306 ?_
      obtain ⟨i353, xi353, h⟩ := gd_step (by decide) h
      refine r_iald hx hb hS hq1 i353 xi353 dJ13___kernel_rem_pio2_307 ?_
      obtain ⟨v354, ev354, h⟩ := lti_step h
      refine r_nmI ev354 ?_
      refine lv_bipush (v := 24) hx hb dJ13___kernel_rem_pio2_308 (by decide) ?_
      refine lv_iload hx hb dJ13___kernel_rem_pio2_310 (lv_at hl 12 rfl) ?_
      obtain ⟨v355, ev355, h⟩ := lti_step h
      refine r_isub hx hb ev355 dJ13___kernel_rem_pio2_312 ?_
      obtain ⟨v356, ev356, h⟩ := lti_step h
      refine r_ishr hx hb ev356 dJ13___kernel_rem_pio2_313 ?_
      refine lv_istore (lv' := [(13, .int v356), (18, .int 0), (20, .double v156), (12, .int v154), (0, .ref x0), (1, .ref x1), (4, .int g100), (5, .ref (dN D 4)), (6, .int v96), (7, .int g101), (8, .int g102), (9, .int g103), (10, .int g103), (17, .int g104), (19, .ref g105), (24, .ref g106), (25, .ref g107), (26, .ref g108)]) hx hb dJ13___kernel_rem_pio2_314 hl (by decide) rfl (fun ls hl => ?_)
      refine lv_iload hx hb dJ13___kernel_rem_pio2_316 (lv_at hl 3 rfl) ?_
      refine lv_iload hx hb dJ13___kernel_rem_pio2_318 (lv_at hl 0 rfl) ?_
      obtain ⟨v357, ev357, h⟩ := lti_step h
      refine r_iadd hx hb ev357 dJ13___kernel_rem_pio2_320 ?_
      refine lv_istore (lv' := [(12, .int v357), (13, .int v356), (18, .int 0), (20, .double v156), (0, .ref x0), (1, .ref x1), (4, .int g100), (5, .ref (dN D 4)), (6, .int v96), (7, .int g101), (8, .int g102), (9, .int g103), (10, .int g103), (17, .int g104), (19, .ref g105), (24, .ref g106), (25, .ref g107), (26, .ref g108)]) hx hb dJ13___kernel_rem_pio2_321 hl (by decide) rfl (fun ls hl => ?_)
      refine lv_aload hx hb dJ13___kernel_rem_pio2_323 (lv_at hl 14 rfl) ?_
      refine lv_iload hx hb dJ13___kernel_rem_pio2_325 (lv_at hl 8 rfl) ?_
      refine lv_iconst (v := 1) hx hb dJ13___kernel_rem_pio2_327 (by decide) ?_
      obtain ⟨v358, ev358, h⟩ := lti_step h
      refine r_isub hx hb ev358 dJ13___kernel_rem_pio2_328 ?_
      refine lv_dup2_11 hx hb dJ13___kernel_rem_pio2_329 rfl rfl ?_
      obtain ⟨i359, xi359, h⟩ := gd_step (by decide) h
      refine r_iald hx hb hS hq1 i359 xi359 dJ13___kernel_rem_pio2_330 ?_
      obtain ⟨v360, ev360, h⟩ := lti_step h
      refine r_nmI ev360 ?_
      refine lv_iload hx hb dJ13___kernel_rem_pio2_331 (lv_at hl 1 rfl) ?_
      refine lv_bipush (v := 24) hx hb dJ13___kernel_rem_pio2_333 (by decide) ?_
      refine lv_iload hx hb dJ13___kernel_rem_pio2_335 (lv_at hl 13 rfl) ?_
      obtain ⟨v361, ev361, h⟩ := lti_step h
      refine r_isub hx hb ev361 dJ13___kernel_rem_pio2_337 ?_
      obtain ⟨v362, ev362, h⟩ := lti_step h
      refine r_ishl hx hb ev362 dJ13___kernel_rem_pio2_338 ?_
      obtain ⟨v363, ev363, h⟩ := lti_step h
      refine r_isub hx hb ev363 dJ13___kernel_rem_pio2_339 ?_
      obtain ⟨i364, xi364, h⟩ := gd_step (by decide) h
      obtain ⟨f365, ef365, h⟩ := lt_step h
      refine r_iast hx hb hS hq1 hB_hq1 i364 xi364 dJ13___kernel_rem_pio2_340 (fun H locs hS hO hq1 => ?_)
      have hq1 : aI D g105 20 f365 H := by rw [ef365]; exact hq1
      have h_x0 := h_x0.off hO ne_h_x0_hq1
      have h_x1 := h_x1.off hO ne_h_x1_hq1
      have hq2 := hq2.off hO (Ne.symm ne_hq1_hq2)
      have hq3 := hq3.off hO (Ne.symm ne_hq1_hq3)
      have hq4 := hq4.off hO (Ne.symm ne_hq1_hq4)
      have hF := hF.fresh hO (fun a ha z => absurd (z ▸ ha) (Nat.not_lt.mpr gq1))
      refine lv_aload hx hb dJ13___kernel_rem_pio2_341 (lv_at hl 14 rfl) ?_
      refine lv_iload hx hb dJ13___kernel_rem_pio2_343 (lv_at hl 8 rfl) ?_
      refine lv_iconst (v := 1) hx hb dJ13___kernel_rem_pio2_345 (by decide) ?_
      obtain ⟨v366, ev366, h⟩ := lti_step h
      refine r_isub hx hb ev366 dJ13___kernel_rem_pio2_346 ?_
      obtain ⟨i367, xi367, h⟩ := gd_step (by decide) h
      refine r_iald hx hb hS hq1 i367 xi367 dJ13___kernel_rem_pio2_347 ?_
      obtain ⟨v368, ev368, h⟩ := lti_step h
      refine r_nmI ev368 ?_
      refine lv_bipush (v := 23) hx hb dJ13___kernel_rem_pio2_348 (by decide) ?_
      refine lv_iload hx hb dJ13___kernel_rem_pio2_350 (lv_at hl 13 rfl) ?_
      obtain ⟨v369, ev369, h⟩ := lti_step h
      refine r_isub hx hb ev369 dJ13___kernel_rem_pio2_352 ?_
      obtain ⟨v370, ev370, h⟩ := lti_step h
      refine r_ishr hx hb ev370 dJ13___kernel_rem_pio2_353 ?_
      refine lv_istore (lv' := [(18, .int v370), (12, .int v357), (13, .int v356), (20, .double v156), (0, .ref x0), (1, .ref x1), (4, .int g100), (5, .ref (dN D 4)), (6, .int v96), (7, .int g101), (8, .int g102), (9, .int g103), (10, .int g103), (17, .int g104), (19, .ref g105), (24, .ref g106), (25, .ref g107), (26, .ref g108)]) hx hb dJ13___kernel_rem_pio2_354 hl (by decide) rfl (fun ls hl => ?_)
      refine lv_goto (tgt := 391) hx hb dJ13___kernel_rem_pio2_356 (by decide) ?_
      exact HK160 v357 v370 f365 h H locs hS hF h_x0 h_x1 hq1 hq2 hq3 hq4 ls (lv_sub hl [4, 5, 6, 7, 8, 9, 10, 11, 12, 1, 13, 0, 14, 3, 15, 16, 17] rfl)
noncomputable def f_J13___kernel_rem_pio2_822 (g381 : Int32) (g382 : Int32) (g383 : Int32) (g384 : Int32) (g385 : Int32) (g389 : Nat → UInt64) (g390 : Nat → UInt64) (g391 : Nat → Int32) (g392 : Nat → UInt64) (g393 : Nat → UInt64) : Nat → Int32 → UInt64 → (Nat → UInt64) → Option ((Nat → UInt64))
  | 0, _, _, _ => none
  | n + 1, v378, v379, f380 =>
    (if v378 < 0 then
      some (f380)
    else
      gd 20 v378 fun i396 =>
      lti (g391 i396) fun v397 =>
      ltd (i2dF v397) fun v398 =>
      ck (dmulF v379 v398) fun v399 =>
      gd 20 v378 fun i400 =>
      lt (va_up f380 i400 v399) fun f401 =>
      ck (dmulF v379 4499096027743125504) fun v402 =>
      lti (v378 + (-1)) fun v403 =>
      f_J13___kernel_rem_pio2_822 g381 g382 g383 g384 g385 g389 g390 g391 g392 g393 n v403 v402 f401
    )
set_option maxHeartbeats 4000000 in
set_option maxRecDepth 100000 in
theorem b_J13___kernel_rem_pio2_822 {p : Program} {l : Launch} {e : Env} {s : State} {m : MethodId} {below : List Frame} {meth : Method} {c : Code} {D : DD} {A : Array Value} {Q : State → Prop} (hC : Cx p s m A meth c yJ13___kernel_rem_pio2 cJ13___kernel_rem_pio2 27 (some .int)) (hS0 : St D s s.heap []) {x1 : Nat} {g381 : Int32} {g382 : Int32} {g383 : Int32} {g384 : Int32} {g385 : Int32} {g386 : Nat} {g387 : Nat} {g388 : Nat} {g389 : Nat → UInt64} {g390 : Nat → UInt64} {g391 : Nat → Int32} {g392 : Nat → UInt64} {g393 : Nat → UInt64} {x0 : Nat} {g394 : Nat} (ne_x0_x1 : x0 ≠ x1) (ne_h_x0_hq1 : x0 ≠ g386) (ne_h_x1_hq1 : x1 ≠ g386) (ne_h_x0_hq2 : x0 ≠ g394) (ne_h_x1_hq2 : x1 ≠ g394) (ne_hq1_hq2 : g386 ≠ g394) (ne_h_x0_hq3 : x0 ≠ g387) (ne_h_x1_hq3 : x1 ≠ g387) (ne_hq1_hq3 : g386 ≠ g387) (ne_hq2_hq3 : g394 ≠ g387) (ne_h_x0_hq4 : x0 ≠ g388) (ne_h_x1_hq4 : x1 ≠ g388) (ne_hq1_hq4 : g386 ≠ g388) (ne_hq2_hq4 : g394 ≠ g388) (ne_hq3_hq4 : g387 ≠ g388) (gq1 : s.heap.size ≤ g386) (gq2 : s.heap.size ≤ g394) (gq3 : s.heap.size ≤ g387) (gq4 : s.heap.size ≤ g388) (hB_h_x1 : dB D ≤ x1) (hB_hq1 : dB D ≤ g386) (hB_hq2 : dB D ≤ g394) (hB_hq3 : dB D ≤ g387) (hB_hq4 : dB D ≤ g388) : ∀ (n : Nat) (v378 : Int32) (v379 : UInt64) (f380 : Nat → UInt64) (out : (Nat → UInt64)) (h : f_J13___kernel_rem_pio2_822 g381 g382 g383 g384 g385 g389 g390 g391 g392 g393 n v378 v379 f380 = some out) (H : Heap) (locs : List Loc) (hS : St D s H locs) (hF : Off (fun a => a = x1) s.heap H) (h_x0 : aD D x0 3 g389 H) (h_x1 : aD D x1 2 g390 H) (hq1 : aI D g386 20 g391 H) (hq2 : aD D g394 20 g392 H) (hq3 : aD D g387 20 g393 H) (hq4 : aD D g388 20 f380 H) (ls : Array Slot) (hl : lv_has ls 27 [(1, .ref x1), (4, .int g381), (6, .int g382), (9, .int g383), (12, .int g384), (13, .int v378), (18, .int g385), (19, .ref g386), (22, .double v379), (25, .ref g387), (26, .ref g388)]) (K : ∀ (H : Heap) (locs : List Loc) (hS : St D s H locs) (hF : Off (fun a => a = x1) s.heap H) (h_x0 : aD D x0 3 g389 H) (h_x1 : aD D x1 2 g390 H) (hq1 : aI D g386 20 g391 H) (hq2 : aD D g394 20 g392 H) (hq3 : aD D g387 20 g393 H) (hq4 : aD D g388 20 out H) (ls : Array Slot) (hl : lv_has ls 27 [(1, .ref x1), (4, .int g381), (6, .int g382), (9, .int g383), (12, .int g384), (18, .int g385), (25, .ref g387), (26, .ref g388)]), W p l e R_J13___kernel_rem_pio2 s m A below meth c H locs 4 80 Q (F0 m 855 ls [])), W p l e R_J13___kernel_rem_pio2 s m A below meth c H locs 4 80 Q (F0 m 822 ls []) := by
  have _h := hS0
  obtain ⟨hx, hb, hr, hlk, hml, hown, hts, hnm⟩ := id hC
  intro n
  induction n with
  | zero => intro v378 v379 f380 out h; unfold f_J13___kernel_rem_pio2_822 at h; cases h
  | succ n ih =>
    intro v378 v379 f380 out h H locs hS hF h_x0 h_x1 hq1 hq2 hq3 hq4 ls hl K
    unfold f_J13___kernel_rem_pio2_822 at h
    refine lv_iload hx hb dJ13___kernel_rem_pio2_822 (lv_at hl 5 rfl) ?_
    refine lv_if_lt (tgt := 855) hx hb dJ13___kernel_rem_pio2_824 (by decide) (fun c395 => ?_) (fun c395 => ?_)
    · have h := it_pos h c395
      obtain rfl := Option.some.inj h
      exact K H locs hS hF h_x0 h_x1 hq1 hq2 hq3 hq4 ls (lv_sub hl [0, 1, 2, 3, 4, 6, 9, 10] rfl)
    · have h := it_neg h c395
      refine lv_aload hx hb dJ13___kernel_rem_pio2_827 (lv_at hl 10 rfl) ?_
      refine lv_iload hx hb dJ13___kernel_rem_pio2_829 (lv_at hl 5 rfl) ?_
      refine lv_dload hx hb dJ13___kernel_rem_pio2_831 (lv_at hl 8 rfl) ?_
      refine lv_aload hx hb dJ13___kernel_rem_pio2_833 (lv_at hl 7 rfl) ?_
      refine lv_iload hx hb dJ13___kernel_rem_pio2_835 (lv_at hl 5 rfl) ?_
      obtain ⟨i396, xi396, h⟩ := gd_step (by decide) h
      refine r_iald hx hb hS hq1 i396 xi396 dJ13___kernel_rem_pio2_837 ?_
      obtain ⟨v397, ev397, h⟩ := lti_step h
      refine r_nmI ev397 ?_
      obtain ⟨v398, ev398, h⟩ := ltd_step h
      refine r_i2d hx hb ev398 dJ13___kernel_rem_pio2_838 ?_
      obtain ⟨v399, ev399, nv399, h⟩ := ck_step h
      refine r_dmul hx hb ev399 nv399 dJ13___kernel_rem_pio2_839 ?_
      obtain ⟨i400, xi400, h⟩ := gd_step (by decide) h
      obtain ⟨f401, ef401, h⟩ := lt_step h
      refine r_dast hx hb hS hq4 hB_hq4 i400 xi400 dJ13___kernel_rem_pio2_840 (fun H locs hS hO hq4 => ?_)
      have hq4 : aD D g388 20 f401 H := by rw [ef401]; exact hq4
      have h_x0 := h_x0.off hO ne_h_x0_hq4
      have h_x1 := h_x1.off hO ne_h_x1_hq4
      have hq1 := hq1.off hO ne_hq1_hq4
      have hq2 := hq2.off hO ne_hq2_hq4
      have hq3 := hq3.off hO ne_hq3_hq4
      have hF := hF.fresh hO (fun a ha z => absurd (z ▸ ha) (Nat.not_lt.mpr gq4))
      refine lv_dload hx hb dJ13___kernel_rem_pio2_841 (lv_at hl 8 rfl) ?_
      refine lv_ldc2d hx hb (v := 4499096027743125504) hown (hts _ q247) dJ13___kernel_rem_pio2_843 ?_
      obtain ⟨v402, ev402, nv402, h⟩ := ck_step h
      refine r_dmul hx hb ev402 nv402 dJ13___kernel_rem_pio2_846 ?_
      refine lv_dstore (lv' := [(22, .double v402), (1, .ref x1), (4, .int g381), (6, .int g382), (9, .int g383), (12, .int g384), (13, .int v378), (18, .int g385), (19, .ref g386), (25, .ref g387), (26, .ref g388)]) hx hb dJ13___kernel_rem_pio2_847 hl (by decide) rfl (fun ls hl => ?_)
      obtain ⟨v403, ev403, h⟩ := lti_step h
      refine lv_iinc (v := v403) (lv' := [(13, .int v403), (22, .double v402), (1, .ref x1), (4, .int g381), (6, .int g382), (9, .int g383), (12, .int g384), (18, .int g385), (19, .ref g386), (25, .ref g387), (26, .ref g388)]) hx hb dJ13___kernel_rem_pio2_849 hl (k := 6) rfl (by rw [ev403]; rfl) (by decide) rfl (fun ls hl => ?_)
      refine lv_goto (tgt := 822) hx hb dJ13___kernel_rem_pio2_852 (by decide) ?_
      exact ih v403 v402 f401 out h H locs hS hF h_x0 h_x1 hq1 hq2 hq3 hq4 ls (lv_sub hl [2, 3, 4, 5, 6, 0, 7, 8, 1, 9, 10] rfl) K
noncomputable def f_J13___kernel_rem_pio2_870 (g424 : Int32) (g425 : Int32) (g426 : Int32) (g427 : Int32) (g428 : Int32) (g429 : Int32) (g432 : Nat → UInt64) (g433 : Nat → UInt64) (g434 : Nat → Int32) (g435 : Nat → UInt64) (g436 : Nat → UInt64) (g437 : Nat → UInt64) : Nat → Int32 → UInt64 → Option (UInt64)
  | 0, _, _ => none
  | n + 1, v422, v423 =>
    (if g426 < v422 then
      some (v423)
    else
      lti (g425 - g428) fun v441 =>
      (if v441 < v422 then
        some (v423)
      else
        gd 8 v422 fun i443 =>
        ltd (tb_PIo2 i443) fun v444 =>
        lti (g428 + v422) fun v445 =>
        gd 20 v445 fun i446 =>
        ltd (g437 i446) fun v447 =>
        ck (dmulF v444 v447) fun v448 =>
        ck (daddF v423 v448) fun v449 =>
        lti (v422 + 1) fun v450 =>
        f_J13___kernel_rem_pio2_870 g424 g425 g426 g427 g428 g429 g432 g433 g434 g435 g436 g437 n v450 v449
      )
    )
set_option maxHeartbeats 4000000 in
set_option maxRecDepth 100000 in
theorem b_J13___kernel_rem_pio2_870 {p : Program} {l : Launch} {e : Env} {s : State} {m : MethodId} {below : List Frame} {meth : Method} {c : Code} {D : DD} {A : Array Value} {Q : State → Prop} (hC : Cx p s m A meth c yJ13___kernel_rem_pio2 cJ13___kernel_rem_pio2 27 (some .int)) (hS0 : St D s s.heap []) {x1 : Nat} {g424 : Int32} {g425 : Int32} {g426 : Int32} {g427 : Int32} {g428 : Int32} {g429 : Int32} {g430 : Nat} {g431 : Nat} {g432 : Nat → UInt64} {g433 : Nat → UInt64} {g434 : Nat → Int32} {g435 : Nat → UInt64} {g436 : Nat → UInt64} {g437 : Nat → UInt64} {x0 : Nat} {g438 : Nat} {g439 : Nat} (ne_x0_x1 : x0 ≠ x1) (ne_h_x0_hq1 : x0 ≠ g438) (ne_h_x1_hq1 : x1 ≠ g438) (ne_h_x0_hq2 : x0 ≠ g439) (ne_h_x1_hq2 : x1 ≠ g439) (ne_hq1_hq2 : g438 ≠ g439) (ne_h_x0_hq3 : x0 ≠ g430) (ne_h_x1_hq3 : x1 ≠ g430) (ne_hq1_hq3 : g438 ≠ g430) (ne_hq2_hq3 : g439 ≠ g430) (ne_h_x0_hq4 : x0 ≠ g431) (ne_h_x1_hq4 : x1 ≠ g431) (ne_hq1_hq4 : g438 ≠ g431) (ne_hq2_hq4 : g439 ≠ g431) (ne_hq3_hq4 : g430 ≠ g431) (gq1 : s.heap.size ≤ g438) (gq2 : s.heap.size ≤ g439) (gq3 : s.heap.size ≤ g430) (gq4 : s.heap.size ≤ g431) (hB_h_x1 : dB D ≤ x1) (hB_hq1 : dB D ≤ g438) (hB_hq2 : dB D ≤ g439) (hB_hq3 : dB D ≤ g430) (hB_hq4 : dB D ≤ g431) : ∀ (n : Nat) (v422 : Int32) (v423 : UInt64) (out : UInt64) (h : f_J13___kernel_rem_pio2_870 g424 g425 g426 g427 g428 g429 g432 g433 g434 g435 g436 g437 n v422 v423 = some out) (H : Heap) (locs : List Loc) (hS : St D s H locs) (hF : Off (fun a => a = x1) s.heap H) (h_x0 : aD D x0 3 g432 H) (h_x1 : aD D x1 2 g433 H) (hq1 : aI D g438 20 g434 H) (hq2 : aD D g439 20 g435 H) (hq3 : aD D g430 20 g436 H) (hq4 : aD D g431 20 g437 H) (ls : Array Slot) (hl : lv_has ls 27 [(1, .ref x1), (4, .int g424), (6, .int g425), (9, .int g426), (12, .int g427), (13, .int g428), (15, .int v422), (18, .int g429), (22, .double v423), (25, .ref g430), (26, .ref g431)]) (K : ∀ (H : Heap) (locs : List Loc) (hS : St D s H locs) (hF : Off (fun a => a = x1) s.heap H) (h_x0 : aD D x0 3 g432 H) (h_x1 : aD D x1 2 g433 H) (hq1 : aI D g438 20 g434 H) (hq2 : aD D g439 20 g435 H) (hq3 : aD D g430 20 g436 H) (hq4 : aD D g431 20 g437 H) (ls : Array Slot) (hl : lv_has ls 27 [(1, .ref x1), (4, .int g424), (6, .int g425), (9, .int g426), (12, .int g427), (13, .int g428), (18, .int g429), (22, .double out), (25, .ref g430), (26, .ref g431)]), W p l e R_J13___kernel_rem_pio2 s m A below meth c H locs 4 80 Q (F0 m 913 ls [])), W p l e R_J13___kernel_rem_pio2 s m A below meth c H locs 4 80 Q (F0 m 870 ls []) := by
  have _h := hS0
  obtain ⟨hx, hb, hr, hlk, hml, hown, hts, hnm⟩ := id hC
  intro n
  induction n with
  | zero => intro v422 v423 out h; unfold f_J13___kernel_rem_pio2_870 at h; cases h
  | succ n ih =>
    intro v422 v423 out h H locs hS hF h_x0 h_x1 hq1 hq2 hq3 hq4 ls hl K
    unfold f_J13___kernel_rem_pio2_870 at h
    refine lv_iload hx hb dJ13___kernel_rem_pio2_870 (lv_at hl 6 rfl) ?_
    refine lv_iload hx hb dJ13___kernel_rem_pio2_872 (lv_at hl 3 rfl) ?_
    refine lv_icmp_gt (tgt := 913) hx hb dJ13___kernel_rem_pio2_874 (by decide) (fun c440 => ?_) (fun c440 => ?_)
    · have h := it_pos h c440
      obtain rfl := Option.some.inj h
      exact K H locs hS hF h_x0 h_x1 hq1 hq2 hq3 hq4 ls (lv_sub hl [0, 1, 2, 3, 4, 5, 7, 8, 9, 10] rfl)
    · have h := it_neg h c440
      refine lv_iload hx hb dJ13___kernel_rem_pio2_877 (lv_at hl 6 rfl) ?_
      refine lv_iload hx hb dJ13___kernel_rem_pio2_879 (lv_at hl 2 rfl) ?_
      refine lv_iload hx hb dJ13___kernel_rem_pio2_881 (lv_at hl 5 rfl) ?_
      obtain ⟨v441, ev441, h⟩ := lti_step h
      refine r_isub hx hb ev441 dJ13___kernel_rem_pio2_883 ?_
      refine lv_icmp_gt (tgt := 913) hx hb dJ13___kernel_rem_pio2_884 (by decide) (fun c442 => ?_) (fun c442 => ?_)
      · have h := it_pos h c442
        obtain rfl := Option.some.inj h
        exact K H locs hS hF h_x0 h_x1 hq1 hq2 hq3 hq4 ls (lv_sub hl [0, 1, 2, 3, 4, 5, 7, 8, 9, 10] rfl)
      · have h := it_neg h c442
        refine lv_dload hx hb dJ13___kernel_rem_pio2_887 (lv_at hl 8 rfl) ?_
        refine r_gets hx hb hts hown hS 6 rfl q296 dJ13___kernel_rem_pio2_889 ?_
        refine lv_iload hx hb dJ13___kernel_rem_pio2_892 (lv_at hl 6 rfl) ?_
        obtain ⟨i443, xi443, h⟩ := gd_step (by decide) h
        refine r_dald hx hb hS (hS.1.RA hS.1.1.2.2.2.1.2.2.2.2.2.2.1) i443 xi443 dJ13___kernel_rem_pio2_894 ?_
        obtain ⟨v444, ev444, h⟩ := ltd_step h
        refine r_nmD ev444 ?_
        refine lv_aload hx hb dJ13___kernel_rem_pio2_895 (lv_at hl 10 rfl) ?_
        refine lv_iload hx hb dJ13___kernel_rem_pio2_897 (lv_at hl 5 rfl) ?_
        refine lv_iload hx hb dJ13___kernel_rem_pio2_899 (lv_at hl 6 rfl) ?_
        obtain ⟨v445, ev445, h⟩ := lti_step h
        refine r_iadd hx hb ev445 dJ13___kernel_rem_pio2_901 ?_
        obtain ⟨i446, xi446, h⟩ := gd_step (by decide) h
        refine r_dald hx hb hS hq4 i446 xi446 dJ13___kernel_rem_pio2_902 ?_
        obtain ⟨v447, ev447, h⟩ := ltd_step h
        refine r_nmD ev447 ?_
        obtain ⟨v448, ev448, nv448, h⟩ := ck_step h
        refine r_dmul hx hb ev448 nv448 dJ13___kernel_rem_pio2_903 ?_
        obtain ⟨v449, ev449, nv449, h⟩ := ck_step h
        refine r_dadd hx hb ev449 nv449 dJ13___kernel_rem_pio2_904 ?_
        refine lv_dstore (lv' := [(22, .double v449), (1, .ref x1), (4, .int g424), (6, .int g425), (9, .int g426), (12, .int g427), (13, .int g428), (15, .int v422), (18, .int g429), (25, .ref g430), (26, .ref g431)]) hx hb dJ13___kernel_rem_pio2_905 hl (by decide) rfl (fun ls hl => ?_)
        obtain ⟨v450, ev450, h⟩ := lti_step h
        refine lv_iinc (v := v450) (lv' := [(15, .int v450), (22, .double v449), (1, .ref x1), (4, .int g424), (6, .int g425), (9, .int g426), (12, .int g427), (13, .int g428), (18, .int g429), (25, .ref g430), (26, .ref g431)]) hx hb dJ13___kernel_rem_pio2_907 hl (k := 7) rfl (by rw [ev450]; rfl) (by decide) rfl (fun ls hl => ?_)
        refine lv_goto (tgt := 870) hx hb dJ13___kernel_rem_pio2_910 (by decide) ?_
        exact ih v450 v449 out h H locs hS hF h_x0 h_x1 hq1 hq2 hq3 hq4 ls (lv_sub hl [2, 3, 4, 5, 6, 7, 0, 8, 1, 9, 10] rfl) K
noncomputable def f_J13___kernel_rem_pio2_859 (g407 : Int32) (g408 : Int32) (g409 : Int32) (g410 : Int32) (g411 : Int32) (g414 : Nat → UInt64) (g415 : Nat → UInt64) (g416 : Nat → Int32) (g417 : Nat → UInt64) (g418 : Nat → UInt64) : Nat → Int32 → (Nat → UInt64) → Option ((Nat → UInt64))
  | 0, _, _ => none
  | n + 1, v405, f406 =>
    (if v405 < 0 then
      some (f406)
    else
      Option.bind (f_J13___kernel_rem_pio2_870 g407 g408 g409 g410 v405 g411 g414 g415 g416 g417 f406 g418 64 0 0) fun o451 =>
      lti (g408 - v405) fun v452 =>
      gd 20 v452 fun i453 =>
      lt (va_up f406 i453 o451) fun f454 =>
      lti (v405 + (-1)) fun v455 =>
      f_J13___kernel_rem_pio2_859 g407 g408 g409 g410 g411 g414 g415 g416 g417 g418 n v455 f454
    )
set_option maxHeartbeats 4000000 in
set_option maxRecDepth 100000 in
theorem b_J13___kernel_rem_pio2_859 {p : Program} {l : Launch} {e : Env} {s : State} {m : MethodId} {below : List Frame} {meth : Method} {c : Code} {D : DD} {A : Array Value} {Q : State → Prop} (hC : Cx p s m A meth c yJ13___kernel_rem_pio2 cJ13___kernel_rem_pio2 27 (some .int)) (hS0 : St D s s.heap []) {x1 : Nat} {g407 : Int32} {g408 : Int32} {g409 : Int32} {g410 : Int32} {g411 : Int32} {g412 : Nat} {g413 : Nat} {g414 : Nat → UInt64} {g415 : Nat → UInt64} {g416 : Nat → Int32} {g417 : Nat → UInt64} {g418 : Nat → UInt64} {x0 : Nat} {g419 : Nat} {g420 : Nat} (ne_x0_x1 : x0 ≠ x1) (ne_h_x0_hq1 : x0 ≠ g419) (ne_h_x1_hq1 : x1 ≠ g419) (ne_h_x0_hq2 : x0 ≠ g420) (ne_h_x1_hq2 : x1 ≠ g420) (ne_hq1_hq2 : g419 ≠ g420) (ne_h_x0_hq3 : x0 ≠ g412) (ne_h_x1_hq3 : x1 ≠ g412) (ne_hq1_hq3 : g419 ≠ g412) (ne_hq2_hq3 : g420 ≠ g412) (ne_h_x0_hq4 : x0 ≠ g413) (ne_h_x1_hq4 : x1 ≠ g413) (ne_hq1_hq4 : g419 ≠ g413) (ne_hq2_hq4 : g420 ≠ g413) (ne_hq3_hq4 : g412 ≠ g413) (gq1 : s.heap.size ≤ g419) (gq2 : s.heap.size ≤ g420) (gq3 : s.heap.size ≤ g412) (gq4 : s.heap.size ≤ g413) (hB_h_x1 : dB D ≤ x1) (hB_hq1 : dB D ≤ g419) (hB_hq2 : dB D ≤ g420) (hB_hq3 : dB D ≤ g412) (hB_hq4 : dB D ≤ g413) : ∀ (n : Nat) (v405 : Int32) (f406 : Nat → UInt64) (out : (Nat → UInt64)) (h : f_J13___kernel_rem_pio2_859 g407 g408 g409 g410 g411 g414 g415 g416 g417 g418 n v405 f406 = some out) (H : Heap) (locs : List Loc) (hS : St D s H locs) (hF : Off (fun a => a = x1) s.heap H) (h_x0 : aD D x0 3 g414 H) (h_x1 : aD D x1 2 g415 H) (hq1 : aI D g419 20 g416 H) (hq2 : aD D g420 20 g417 H) (hq3 : aD D g412 20 f406 H) (hq4 : aD D g413 20 g418 H) (ls : Array Slot) (hl : lv_has ls 27 [(1, .ref x1), (4, .int g407), (6, .int g408), (9, .int g409), (12, .int g410), (13, .int v405), (18, .int g411), (25, .ref g412), (26, .ref g413)]) (K : ∀ (H : Heap) (locs : List Loc) (hS : St D s H locs) (hF : Off (fun a => a = x1) s.heap H) (h_x0 : aD D x0 3 g414 H) (h_x1 : aD D x1 2 g415 H) (hq1 : aI D g419 20 g416 H) (hq2 : aD D g420 20 g417 H) (hq3 : aD D g412 20 out H) (hq4 : aD D g413 20 g418 H) (ls : Array Slot) (hl : lv_has ls 27 [(1, .ref x1), (4, .int g407), (6, .int g408), (12, .int g410), (18, .int g411), (25, .ref g412)]), W p l e R_J13___kernel_rem_pio2 s m A below meth c H locs 4 80 Q (F0 m 929 ls [])), W p l e R_J13___kernel_rem_pio2 s m A below meth c H locs 4 80 Q (F0 m 859 ls []) := by
  have _h := hS0
  obtain ⟨hx, hb, hr, hlk, hml, hown, hts, hnm⟩ := id hC
  intro n
  induction n with
  | zero => intro v405 f406 out h; unfold f_J13___kernel_rem_pio2_859 at h; cases h
  | succ n ih =>
    intro v405 f406 out h H locs hS hF h_x0 h_x1 hq1 hq2 hq3 hq4 ls hl K
    unfold f_J13___kernel_rem_pio2_859 at h
    refine lv_iload hx hb dJ13___kernel_rem_pio2_859 (lv_at hl 5 rfl) ?_
    refine lv_if_lt (tgt := 929) hx hb dJ13___kernel_rem_pio2_861 (by decide) (fun c421 => ?_) (fun c421 => ?_)
    · have h := it_pos h c421
      obtain rfl := Option.some.inj h
      exact K H locs hS hF h_x0 h_x1 hq1 hq2 hq3 hq4 ls (lv_sub hl [0, 1, 2, 4, 6, 7] rfl)
    · have h := it_neg h c421
      refine lv_dconst0 hx hb dJ13___kernel_rem_pio2_864 ?_
      refine lv_dstore (lv' := [(22, .double 0), (1, .ref x1), (4, .int g407), (6, .int g408), (9, .int g409), (12, .int g410), (13, .int v405), (18, .int g411), (25, .ref g412), (26, .ref g413)]) hx hb dJ13___kernel_rem_pio2_865 hl (by decide) rfl (fun ls hl => ?_)
      refine lv_iconst (v := 0) hx hb dJ13___kernel_rem_pio2_867 (by decide) ?_
      refine lv_istore (lv' := [(15, .int 0), (22, .double 0), (1, .ref x1), (4, .int g407), (6, .int g408), (9, .int g409), (12, .int g410), (13, .int v405), (18, .int g411), (25, .ref g412), (26, .ref g413)]) hx hb dJ13___kernel_rem_pio2_868 hl (by decide) rfl (fun ls hl => ?_)
      obtain ⟨o451, eo451, h⟩ := bind_step h
      refine b_J13___kernel_rem_pio2_870 hC hS0 ne_x0_x1 ne_h_x0_hq1 ne_h_x1_hq1 ne_h_x0_hq2 ne_h_x1_hq2 ne_hq1_hq2 ne_h_x0_hq3 ne_h_x1_hq3 ne_hq1_hq3 ne_hq2_hq3 ne_h_x0_hq4 ne_h_x1_hq4 ne_hq1_hq4 ne_hq2_hq4 ne_hq3_hq4 gq1 gq2 gq3 gq4 hB_h_x1 hB_hq1 hB_hq2 hB_hq3 hB_hq4 64 0 0 o451 eo451 H locs hS hF h_x0 h_x1 hq1 hq2 hq3 hq4 ls (lv_sub hl [2, 3, 4, 5, 6, 7, 0, 8, 1, 9, 10] rfl) (fun H locs hS hF h_x0 h_x1 hq1 hq2 hq3 hq4 ls hl => ?_)
      refine lv_aload hx hb dJ13___kernel_rem_pio2_913 (lv_at hl 8 rfl) ?_
      refine lv_iload hx hb dJ13___kernel_rem_pio2_915 (lv_at hl 2 rfl) ?_
      refine lv_iload hx hb dJ13___kernel_rem_pio2_917 (lv_at hl 5 rfl) ?_
      obtain ⟨v452, ev452, h⟩ := lti_step h
      refine r_isub hx hb ev452 dJ13___kernel_rem_pio2_919 ?_
      refine lv_dload hx hb dJ13___kernel_rem_pio2_920 (lv_at hl 7 rfl) ?_
      obtain ⟨i453, xi453, h⟩ := gd_step (by decide) h
      obtain ⟨f454, ef454, h⟩ := lt_step h
      refine r_dast hx hb hS hq3 hB_hq3 i453 xi453 dJ13___kernel_rem_pio2_922 (fun H locs hS hO hq3 => ?_)
      have hq3 : aD D g412 20 f454 H := by rw [ef454]; exact hq3
      have h_x0 := h_x0.off hO ne_h_x0_hq3
      have h_x1 := h_x1.off hO ne_h_x1_hq3
      have hq1 := hq1.off hO ne_hq1_hq3
      have hq2 := hq2.off hO ne_hq2_hq3
      have hq4 := hq4.off hO (Ne.symm ne_hq3_hq4)
      have hF := hF.fresh hO (fun a ha z => absurd (z ▸ ha) (Nat.not_lt.mpr gq3))
      obtain ⟨v455, ev455, h⟩ := lti_step h
      refine lv_iinc (v := v455) (lv' := [(13, .int v455), (1, .ref x1), (4, .int g407), (6, .int g408), (9, .int g409), (12, .int g410), (18, .int g411), (22, .double o451), (25, .ref g412), (26, .ref g413)]) hx hb dJ13___kernel_rem_pio2_923 hl (k := 5) rfl (by rw [ev455]; rfl) (by decide) rfl (fun ls hl => ?_)
      refine lv_goto (tgt := 859) hx hb dJ13___kernel_rem_pio2_926 (by decide) ?_
      exact ih v455 f454 out h H locs hS hF h_x0 h_x1 hq1 hq2 hq3 hq4 ls (lv_sub hl [1, 2, 3, 4, 5, 0, 6, 8, 9] rfl) K
noncomputable def f_J13___kernel_rem_pio2_1014 (g460 : Int32) (g461 : Int32) (g462 : Int32) (g464 : Nat → UInt64) (g465 : Nat → UInt64) (g466 : Nat → Int32) (g467 : Nat → UInt64) (g468 : Nat → UInt64) (g469 : Nat → UInt64) : Nat → Int32 → UInt64 → Option (UInt64)
  | 0, _, _ => none
  | n + 1, v458, v459 =>
    (if v458 < 0 then
      some (v459)
    else
      gd 20 v458 fun i474 =>
      ltd (g468 i474) fun v475 =>
      ck (daddF v459 v475) fun v476 =>
      lti (v458 + (-1)) fun v477 =>
      f_J13___kernel_rem_pio2_1014 g460 g461 g462 g464 g465 g466 g467 g468 g469 n v477 v476
    )
set_option maxHeartbeats 4000000 in
set_option maxRecDepth 100000 in
theorem b_J13___kernel_rem_pio2_1014 {p : Program} {l : Launch} {e : Env} {s : State} {m : MethodId} {below : List Frame} {meth : Method} {c : Code} {D : DD} {A : Array Value} {Q : State → Prop} (hC : Cx p s m A meth c yJ13___kernel_rem_pio2 cJ13___kernel_rem_pio2 27 (some .int)) (hS0 : St D s s.heap []) {x1 : Nat} {g460 : Int32} {g461 : Int32} {g462 : Int32} {g463 : Nat} {g464 : Nat → UInt64} {g465 : Nat → UInt64} {g466 : Nat → Int32} {g467 : Nat → UInt64} {g468 : Nat → UInt64} {g469 : Nat → UInt64} {x0 : Nat} {g470 : Nat} {g471 : Nat} {g472 : Nat} (ne_x0_x1 : x0 ≠ x1) (ne_h_x0_hq1 : x0 ≠ g470) (ne_h_x1_hq1 : x1 ≠ g470) (ne_h_x0_hq2 : x0 ≠ g471) (ne_h_x1_hq2 : x1 ≠ g471) (ne_hq1_hq2 : g470 ≠ g471) (ne_h_x0_hq3 : x0 ≠ g463) (ne_h_x1_hq3 : x1 ≠ g463) (ne_hq1_hq3 : g470 ≠ g463) (ne_hq2_hq3 : g471 ≠ g463) (ne_h_x0_hq4 : x0 ≠ g472) (ne_h_x1_hq4 : x1 ≠ g472) (ne_hq1_hq4 : g470 ≠ g472) (ne_hq2_hq4 : g471 ≠ g472) (ne_hq3_hq4 : g463 ≠ g472) (gq1 : s.heap.size ≤ g470) (gq2 : s.heap.size ≤ g471) (gq3 : s.heap.size ≤ g463) (gq4 : s.heap.size ≤ g472) (hB_h_x1 : dB D ≤ x1) (hB_hq1 : dB D ≤ g470) (hB_hq2 : dB D ≤ g471) (hB_hq3 : dB D ≤ g463) (hB_hq4 : dB D ≤ g472) : ∀ (n : Nat) (v458 : Int32) (v459 : UInt64) (out : UInt64) (h : f_J13___kernel_rem_pio2_1014 g460 g461 g462 g464 g465 g466 g467 g468 g469 n v458 v459 = some out) (H : Heap) (locs : List Loc) (hS : St D s H locs) (hF : Off (fun a => a = x1) s.heap H) (h_x0 : aD D x0 3 g464 H) (h_x1 : aD D x1 2 g465 H) (hq1 : aI D g470 20 g466 H) (hq2 : aD D g471 20 g467 H) (hq3 : aD D g463 20 g468 H) (hq4 : aD D g472 20 g469 H) (ls : Array Slot) (hl : lv_has ls 27 [(1, .ref x1), (6, .int g460), (12, .int g461), (13, .int v458), (18, .int g462), (22, .double v459), (25, .ref g463)]) (K : ∀ (H : Heap) (locs : List Loc) (hS : St D s H locs) (hF : Off (fun a => a = x1) s.heap H) (h_x0 : aD D x0 3 g464 H) (h_x1 : aD D x1 2 g465 H) (hq1 : aI D g470 20 g466 H) (hq2 : aD D g471 20 g467 H) (hq3 : aD D g463 20 g468 H) (hq4 : aD D g472 20 g469 H) (ls : Array Slot) (hl : lv_has ls 27 [(1, .ref x1), (6, .int g460), (12, .int g461), (18, .int g462), (22, .double out), (25, .ref g463)]), W p l e R_J13___kernel_rem_pio2 s m A below meth c H locs 4 80 Q (F0 m 1035 ls [])), W p l e R_J13___kernel_rem_pio2 s m A below meth c H locs 4 80 Q (F0 m 1014 ls []) := by
  have _h := hS0
  obtain ⟨hx, hb, hr, hlk, hml, hown, hts, hnm⟩ := id hC
  intro n
  induction n with
  | zero => intro v458 v459 out h; unfold f_J13___kernel_rem_pio2_1014 at h; cases h
  | succ n ih =>
    intro v458 v459 out h H locs hS hF h_x0 h_x1 hq1 hq2 hq3 hq4 ls hl K
    unfold f_J13___kernel_rem_pio2_1014 at h
    refine lv_iload hx hb dJ13___kernel_rem_pio2_1014 (lv_at hl 3 rfl) ?_
    refine lv_if_lt (tgt := 1035) hx hb dJ13___kernel_rem_pio2_1016 (by decide) (fun c473 => ?_) (fun c473 => ?_)
    · have h := it_pos h c473
      obtain rfl := Option.some.inj h
      exact K H locs hS hF h_x0 h_x1 hq1 hq2 hq3 hq4 ls (lv_sub hl [0, 1, 2, 4, 5, 6] rfl)
    · have h := it_neg h c473
      refine lv_dload hx hb dJ13___kernel_rem_pio2_1019 (lv_at hl 5 rfl) ?_
      refine lv_aload hx hb dJ13___kernel_rem_pio2_1021 (lv_at hl 6 rfl) ?_
      refine lv_iload hx hb dJ13___kernel_rem_pio2_1023 (lv_at hl 3 rfl) ?_
      obtain ⟨i474, xi474, h⟩ := gd_step (by decide) h
      refine r_dald hx hb hS hq3 i474 xi474 dJ13___kernel_rem_pio2_1025 ?_
      obtain ⟨v475, ev475, h⟩ := ltd_step h
      refine r_nmD ev475 ?_
      obtain ⟨v476, ev476, nv476, h⟩ := ck_step h
      refine r_dadd hx hb ev476 nv476 dJ13___kernel_rem_pio2_1026 ?_
      refine lv_dstore (lv' := [(22, .double v476), (1, .ref x1), (6, .int g460), (12, .int g461), (13, .int v458), (18, .int g462), (25, .ref g463)]) hx hb dJ13___kernel_rem_pio2_1027 hl (by decide) rfl (fun ls hl => ?_)
      obtain ⟨v477, ev477, h⟩ := lti_step h
      refine lv_iinc (v := v477) (lv' := [(13, .int v477), (22, .double v476), (1, .ref x1), (6, .int g460), (12, .int g461), (18, .int g462), (25, .ref g463)]) hx hb dJ13___kernel_rem_pio2_1029 hl (k := 4) rfl (by rw [ev477]; rfl) (by decide) rfl (fun ls hl => ?_)
      refine lv_goto (tgt := 1014) hx hb dJ13___kernel_rem_pio2_1032 (by decide) ?_
      exact ih v477 v476 out h H locs hS hF h_x0 h_x1 hq1 hq2 hq3 hq4 ls (lv_sub hl [2, 3, 4, 0, 5, 1, 6] rfl) K
noncomputable def f_J13___kernel_rem_pio2_1063 (g486 : Int32) (g487 : Int32) (g488 : Int32) (g490 : Nat → UInt64) (g491 : Nat → UInt64) (g492 : Nat → Int32) (g493 : Nat → UInt64) (g494 : Nat → UInt64) (g495 : Nat → UInt64) : Nat → Int32 → UInt64 → Option (UInt64)
  | 0, _, _ => none
  | n + 1, v484, v485 =>
    (if g486 < v484 then
      some (v485)
    else
      gd 20 v484 fun i500 =>
      ltd (g494 i500) fun v501 =>
      ck (daddF v485 v501) fun v502 =>
      lti (v484 + 1) fun v503 =>
      f_J13___kernel_rem_pio2_1063 g486 g487 g488 g490 g491 g492 g493 g494 g495 n v503 v502
    )
set_option maxHeartbeats 4000000 in
set_option maxRecDepth 100000 in
theorem b_J13___kernel_rem_pio2_1063 {p : Program} {l : Launch} {e : Env} {s : State} {m : MethodId} {below : List Frame} {meth : Method} {c : Code} {D : DD} {A : Array Value} {Q : State → Prop} (hC : Cx p s m A meth c yJ13___kernel_rem_pio2 cJ13___kernel_rem_pio2 27 (some .int)) (hS0 : St D s s.heap []) {x1 : Nat} {g486 : Int32} {g487 : Int32} {g488 : Int32} {g489 : Nat} {g490 : Nat → UInt64} {g491 : Nat → UInt64} {g492 : Nat → Int32} {g493 : Nat → UInt64} {g494 : Nat → UInt64} {g495 : Nat → UInt64} {x0 : Nat} {g496 : Nat} {g497 : Nat} {g498 : Nat} (ne_x0_x1 : x0 ≠ x1) (ne_h_x0_hq1 : x0 ≠ g496) (ne_h_x1_hq1 : x1 ≠ g496) (ne_h_x0_hq2 : x0 ≠ g497) (ne_h_x1_hq2 : x1 ≠ g497) (ne_hq1_hq2 : g496 ≠ g497) (ne_h_x0_hq3 : x0 ≠ g489) (ne_h_x1_hq3 : x1 ≠ g489) (ne_hq1_hq3 : g496 ≠ g489) (ne_hq2_hq3 : g497 ≠ g489) (ne_h_x0_hq4 : x0 ≠ g498) (ne_h_x1_hq4 : x1 ≠ g498) (ne_hq1_hq4 : g496 ≠ g498) (ne_hq2_hq4 : g497 ≠ g498) (ne_hq3_hq4 : g489 ≠ g498) (gq1 : s.heap.size ≤ g496) (gq2 : s.heap.size ≤ g497) (gq3 : s.heap.size ≤ g489) (gq4 : s.heap.size ≤ g498) (hB_h_x1 : dB D ≤ x1) (hB_hq1 : dB D ≤ g496) (hB_hq2 : dB D ≤ g497) (hB_hq3 : dB D ≤ g489) (hB_hq4 : dB D ≤ g498) : ∀ (n : Nat) (v484 : Int32) (v485 : UInt64) (out : UInt64) (h : f_J13___kernel_rem_pio2_1063 g486 g487 g488 g490 g491 g492 g493 g494 g495 n v484 v485 = some out) (H : Heap) (locs : List Loc) (hS : St D s H locs) (hF : Off (fun a => a = x1) s.heap H) (h_x0 : aD D x0 3 g490 H) (h_x1 : aD D x1 2 g491 H) (hq1 : aI D g496 20 g492 H) (hq2 : aD D g497 20 g493 H) (hq3 : aD D g489 20 g494 H) (hq4 : aD D g498 20 g495 H) (ls : Array Slot) (hl : lv_has ls 27 [(1, .ref x1), (6, .int g486), (12, .int g487), (13, .int v484), (18, .int g488), (22, .double v485), (25, .ref g489)]) (K : ∀ (H : Heap) (locs : List Loc) (hS : St D s H locs) (hF : Off (fun a => a = x1) s.heap H) (h_x0 : aD D x0 3 g490 H) (h_x1 : aD D x1 2 g491 H) (hq1 : aI D g496 20 g492 H) (hq2 : aD D g497 20 g493 H) (hq3 : aD D g489 20 g494 H) (hq4 : aD D g498 20 g495 H) (ls : Array Slot) (hl : lv_has ls 27 [(1, .ref x1), (12, .int g487), (18, .int g488), (22, .double out)]), W p l e R_J13___kernel_rem_pio2 s m A below meth c H locs 4 80 Q (F0 m 1086 ls [])), W p l e R_J13___kernel_rem_pio2 s m A below meth c H locs 4 80 Q (F0 m 1063 ls []) := by
  have _h := hS0
  obtain ⟨hx, hb, hr, hlk, hml, hown, hts, hnm⟩ := id hC
  intro n
  induction n with
  | zero => intro v484 v485 out h; unfold f_J13___kernel_rem_pio2_1063 at h; cases h
  | succ n ih =>
    intro v484 v485 out h H locs hS hF h_x0 h_x1 hq1 hq2 hq3 hq4 ls hl K
    unfold f_J13___kernel_rem_pio2_1063 at h
    refine lv_iload hx hb dJ13___kernel_rem_pio2_1063 (lv_at hl 3 rfl) ?_
    refine lv_iload hx hb dJ13___kernel_rem_pio2_1065 (lv_at hl 1 rfl) ?_
    refine lv_icmp_gt (tgt := 1086) hx hb dJ13___kernel_rem_pio2_1067 (by decide) (fun c499 => ?_) (fun c499 => ?_)
    · have h := it_pos h c499
      obtain rfl := Option.some.inj h
      exact K H locs hS hF h_x0 h_x1 hq1 hq2 hq3 hq4 ls (lv_sub hl [0, 2, 4, 5] rfl)
    · have h := it_neg h c499
      refine lv_dload hx hb dJ13___kernel_rem_pio2_1070 (lv_at hl 5 rfl) ?_
      refine lv_aload hx hb dJ13___kernel_rem_pio2_1072 (lv_at hl 6 rfl) ?_
      refine lv_iload hx hb dJ13___kernel_rem_pio2_1074 (lv_at hl 3 rfl) ?_
      obtain ⟨i500, xi500, h⟩ := gd_step (by decide) h
      refine r_dald hx hb hS hq3 i500 xi500 dJ13___kernel_rem_pio2_1076 ?_
      obtain ⟨v501, ev501, h⟩ := ltd_step h
      refine r_nmD ev501 ?_
      obtain ⟨v502, ev502, nv502, h⟩ := ck_step h
      refine r_dadd hx hb ev502 nv502 dJ13___kernel_rem_pio2_1077 ?_
      refine lv_dstore (lv' := [(22, .double v502), (1, .ref x1), (6, .int g486), (12, .int g487), (13, .int v484), (18, .int g488), (25, .ref g489)]) hx hb dJ13___kernel_rem_pio2_1078 hl (by decide) rfl (fun ls hl => ?_)
      obtain ⟨v503, ev503, h⟩ := lti_step h
      refine lv_iinc (v := v503) (lv' := [(13, .int v503), (22, .double v502), (1, .ref x1), (6, .int g486), (12, .int g487), (18, .int g488), (25, .ref g489)]) hx hb dJ13___kernel_rem_pio2_1080 hl (k := 4) rfl (by rw [ev503]; rfl) (by decide) rfl (fun ls hl => ?_)
      refine lv_goto (tgt := 1063) hx hb dJ13___kernel_rem_pio2_1083 (by decide) ?_
      exact ih v503 v502 out h H locs hS hF h_x0 h_x1 hq1 hq2 hq3 hq4 ls (lv_sub hl [2, 3, 4, 0, 5, 1, 6] rfl) K
noncomputable def f_J13___kernel_rem_pio2_724 (g543 : Int32) (g544 : Int32) (g545 : Int32) (g546 : Int32) (g550 : Nat → UInt64) (g551 : Nat → UInt64) (g552 : Nat → Int32) (g553 : Nat → UInt64) (g554 : Nat → UInt64) (g555 : Nat → UInt64) : Nat → Int32 → Int32 → Option (Int32 × Int32)
  | 0, _, _ => none
  | n + 1, v541, v542 =>
    gd 20 v541 fun i557 =>
    lti (g552 i557) fun v558 =>
    (if v558 = 0 then
      lti (v541 + (-1)) fun v560 =>
      lti (v542 + (-24)) fun v561 =>
      f_J13___kernel_rem_pio2_724 g543 g544 g545 g546 g550 g551 g552 g553 g554 g555 n v560 v561
    else
      some (v541, v542)
    )
set_option maxHeartbeats 4000000 in
set_option maxRecDepth 100000 in
theorem b_J13___kernel_rem_pio2_724 {p : Program} {l : Launch} {e : Env} {s : State} {m : MethodId} {below : List Frame} {meth : Method} {c : Code} {D : DD} {A : Array Value} {Q : State → Prop} (hC : Cx p s m A meth c yJ13___kernel_rem_pio2 cJ13___kernel_rem_pio2 27 (some .int)) (hS0 : St D s s.heap []) {x1 : Nat} {g543 : Int32} {g544 : Int32} {g545 : Int32} {g546 : Int32} {g547 : Nat} {g548 : Nat} {g549 : Nat} {g550 : Nat → UInt64} {g551 : Nat → UInt64} {g552 : Nat → Int32} {g553 : Nat → UInt64} {g554 : Nat → UInt64} {g555 : Nat → UInt64} {x0 : Nat} {g556 : Nat} (ne_x0_x1 : x0 ≠ x1) (ne_h_x0_hq1 : x0 ≠ g547) (ne_h_x1_hq1 : x1 ≠ g547) (ne_h_x0_hq2 : x0 ≠ g556) (ne_h_x1_hq2 : x1 ≠ g556) (ne_hq1_hq2 : g547 ≠ g556) (ne_h_x0_hq3 : x0 ≠ g548) (ne_h_x1_hq3 : x1 ≠ g548) (ne_hq1_hq3 : g547 ≠ g548) (ne_hq2_hq3 : g556 ≠ g548) (ne_h_x0_hq4 : x0 ≠ g549) (ne_h_x1_hq4 : x1 ≠ g549) (ne_hq1_hq4 : g547 ≠ g549) (ne_hq2_hq4 : g556 ≠ g549) (ne_hq3_hq4 : g548 ≠ g549) (gq1 : s.heap.size ≤ g547) (gq2 : s.heap.size ≤ g556) (gq3 : s.heap.size ≤ g548) (gq4 : s.heap.size ≤ g549) (hB_h_x1 : dB D ≤ x1) (hB_hq1 : dB D ≤ g547) (hB_hq2 : dB D ≤ g556) (hB_hq3 : dB D ≤ g548) (hB_hq4 : dB D ≤ g549) : ∀ (n : Nat) (v541 : Int32) (v542 : Int32) (out : Int32 × Int32) (h : f_J13___kernel_rem_pio2_724 g543 g544 g545 g546 g550 g551 g552 g553 g554 g555 n v541 v542 = some out) (H : Heap) (locs : List Loc) (hS : St D s H locs) (hF : Off (fun a => a = x1) s.heap H) (h_x0 : aD D x0 3 g550 H) (h_x1 : aD D x1 2 g551 H) (hq1 : aI D g547 20 g552 H) (hq2 : aD D g556 20 g553 H) (hq3 : aD D g548 20 g554 H) (hq4 : aD D g549 20 g555 H) (ls : Array Slot) (hl : lv_has ls 27 [(1, .ref x1), (4, .int g543), (6, .int v541), (9, .int g544), (12, .int g545), (17, .int v542), (18, .int g546), (19, .ref g547), (25, .ref g548), (26, .ref g549)]) (K : ∀ (H : Heap) (locs : List Loc) (hS : St D s H locs) (hF : Off (fun a => a = x1) s.heap H) (h_x0 : aD D x0 3 g550 H) (h_x1 : aD D x1 2 g551 H) (hq1 : aI D g547 20 g552 H) (hq2 : aD D g556 20 g553 H) (hq3 : aD D g548 20 g554 H) (hq4 : aD D g549 20 g555 H) (ls : Array Slot) (hl : lv_has ls 27 [(1, .ref x1), (4, .int g543), (6, .int out.1), (9, .int g544), (12, .int g545), (17, .int out.2), (18, .int g546), (19, .ref g547), (25, .ref g548), (26, .ref g549)]), W p l e R_J13___kernel_rem_pio2 s m A below meth c H locs 4 80 Q (F0 m 810 ls [])), W p l e R_J13___kernel_rem_pio2 s m A below meth c H locs 4 80 Q (F0 m 724 ls []) := by
  have _h := hS0
  obtain ⟨hx, hb, hr, hlk, hml, hown, hts, hnm⟩ := id hC
  intro n
  induction n with
  | zero => intro v541 v542 out h; unfold f_J13___kernel_rem_pio2_724 at h; cases h
  | succ n ih =>
    intro v541 v542 out h H locs hS hF h_x0 h_x1 hq1 hq2 hq3 hq4 ls hl K
    unfold f_J13___kernel_rem_pio2_724 at h
    refine lv_aload hx hb dJ13___kernel_rem_pio2_724 (lv_at hl 7 rfl) ?_
    refine lv_iload hx hb dJ13___kernel_rem_pio2_726 (lv_at hl 2 rfl) ?_
    obtain ⟨i557, xi557, h⟩ := gd_step (by decide) h
    refine r_iald hx hb hS hq1 i557 xi557 dJ13___kernel_rem_pio2_728 ?_
    obtain ⟨v558, ev558, h⟩ := lti_step h
    refine r_nmI ev558 ?_
    refine lv_if_ne (tgt := 810) hx hb dJ13___kernel_rem_pio2_729 (by decide) (fun c559 => ?_) (fun c559 => ?_)
    · have h := it_neg h c559
      obtain rfl := Option.some.inj h
      exact K H locs hS hF h_x0 h_x1 hq1 hq2 hq3 hq4 ls (lv_sub hl [0, 1, 2, 3, 4, 5, 6, 7, 8, 9] rfl)
    · have h := it_pos h c559
      obtain ⟨v560, ev560, h⟩ := lti_step h
      refine lv_iinc (v := v560) (lv' := [(6, .int v560), (1, .ref x1), (4, .int g543), (9, .int g544), (12, .int g545), (17, .int v542), (18, .int g546), (19, .ref g547), (25, .ref g548), (26, .ref g549)]) hx hb dJ13___kernel_rem_pio2_732 hl (k := 2) rfl (by rw [ev560]; rfl) (by decide) rfl (fun ls hl => ?_)
      obtain ⟨v561, ev561, h⟩ := lti_step h
      refine lv_iinc (v := v561) (lv' := [(17, .int v561), (6, .int v560), (1, .ref x1), (4, .int g543), (9, .int g544), (12, .int g545), (18, .int g546), (19, .ref g547), (25, .ref g548), (26, .ref g549)]) hx hb dJ13___kernel_rem_pio2_735 hl (k := 5) rfl (by rw [ev561]; rfl) (by decide) rfl (fun ls hl => ?_)
      refine lv_goto (tgt := 724) hx hb dJ13___kernel_rem_pio2_738 (by decide) ?_
      exact ih v560 v561 out h H locs hS hF h_x0 h_x1 hq1 hq2 hq3 hq4 ls (lv_sub hl [2, 3, 1, 4, 5, 0, 6, 7, 8, 9] rfl) K
noncomputable def f_J13___kernel_rem_pio2 (y0 : Nat → UInt64) (y1 : Nat → UInt64) (x2 : Int32) (x3 : Int32) (x4 : Int32) : Option (Int32 × (Nat → UInt64)) :=
  gd 4 x4 fun i5 =>
  lti (tb_initJk i5) fun v6 =>
  lti (x3 - 1) fun v7 =>
  lti (x2 - 3) fun v8 =>
  lti (v8 / 24) fun v9 =>
  lt (fun (v10 : Int32) =>
  lti (v10 + 1) fun v12 =>
  lti (24 * v12) fun v13 =>
  lti (x2 - v13) fun v14 =>
  lti (v10 - v7) fun v15 =>
  lti (v7 + v6) fun v16 =>
  Option.bind (f_J13___kernel_rem_pio2_85 x4 v7 v10 v6 v16 v14 y0 y1 (fun _ => 0) (fun _ => 0) 64 0 v15 (fun _ => 0)) fun o45 =>
  Option.bind (f_J13___kernel_rem_pio2_124 x4 v7 v10 v6 v14 y0 y1 (fun _ => 0) o45 (fun _ => 0) 64 0 (fun _ => 0)) fun o95 =>
  Option.bind (f_J13___kernel_rem_pio2_188 x4 v7 v10 v6 v14 y0 y1 (fun _ => 0) 64 v6 (fun _ => 0) o45 o95) fun o371 =>
  lti (dcmpF o371.2.2.2.1 0 .l) fun v372 =>
  lt (fun (v373 : Int32) (v374 : Int32) (f375 : Nat → Int32) =>
  Option.bind (f_J12_scalb 4607182418800017408 v374) fun o377 =>
  Option.bind (f_J13___kernel_rem_pio2_822 x4 v373 v6 o371.2.1 o371.2.2.1 y0 y1 f375 o371.2.2.2.2.2.1 (fun _ => 0) 64 v373 o377 o371.2.2.2.2.2.2) fun o404 =>
  Option.bind (f_J13___kernel_rem_pio2_859 x4 v373 v6 o371.2.1 o371.2.2.1 y0 y1 f375 o371.2.2.2.2.2.1 o404 64 v373 (fun _ => 0)) fun o456 =>
  lt (fun (_u : Unit) =>
  Option.bind (f_J13___kernel_rem_pio2_1014 v373 o371.2.1 o371.2.2.1 y0 y1 f375 o371.2.2.2.2.2.1 o456 o404 64 v373 0) fun o478 =>
  lt (fun (v479 : UInt64) =>
  lt (va_up y1 0 v479) fun f481 =>
  ltd (o456 0) fun v482 =>
  ck (dsubF v482 o478) fun v483 =>
  Option.bind (f_J13___kernel_rem_pio2_1063 v373 o371.2.1 o371.2.2.1 y0 f481 f375 o371.2.2.2.2.2.1 o456 o404 64 1 v483) fun o504 =>
  lt (fun (v505 : UInt64) =>
  lt (va_up f481 1 v505) fun f507 =>
  lti (o371.2.1 &&& 7) fun v508 =>
  some (v508, f507)
  ) fun K506 =>
  (if o371.2.2.1 = 0 then
    K506 o504
  else
    ltd (FP.dneg o504) fun v510 =>
    K506 v510
  )
  ) fun K480 =>
  (if o371.2.2.1 = 0 then
    K480 o478
  else
    ltd (FP.dneg o478) fun v512 =>
    K480 v512
  )
  ) fun K457 =>
  (if x4 = 0 then
    none
  else
  (if x4 = 1 then
    K457 ()
  else
  (if x4 = 2 then
    K457 ()
  else
  (if x4 = 3 then
    none
  else
  lti (o371.2.1 &&& 7) fun v517 =>
  some (v517, y1)
  ))))
  ) fun K376 =>
  (if v372 = 0 then
    lti (o371.1 + (-1)) fun v539 =>
    lti (v14 + (-24)) fun v540 =>
    Option.bind (f_J13___kernel_rem_pio2_724 x4 v6 o371.2.1 o371.2.2.1 y0 y1 o371.2.2.2.2.1 o371.2.2.2.2.2.1 (fun _ => 0) o371.2.2.2.2.2.2 64 v539 v540) fun o562 =>
    K376 o562.1 o562.2 o371.2.2.2.2.1
  else
    lti (-v14) fun v519 =>
    Option.bind (f_J12_scalb o371.2.2.2.1 v519) fun o520 =>
    lti (dcmpF o520 4715268809856909312 .l) fun v521 =>
    (if v521 < 0 then
      lti (d2iF o520) fun v523 =>
      gd 20 o371.1 fun i524 =>
      lt (va_up o371.2.2.2.2.1 i524 v523) fun f525 =>
      K376 o371.1 v14 f525
    else
      ck (dmulF 4499096027743125504 o520) fun v526 =>
      lti (d2iF v526) fun v527 =>
      ltd (i2dF v527) fun v528 =>
      ck (dmulF 4715268809856909312 v528) fun v529 =>
      ck (dsubF o520 v529) fun v530 =>
      lti (d2iF v530) fun v531 =>
      gd 20 o371.1 fun i532 =>
      lt (va_up o371.2.2.2.2.1 i532 v531) fun f533 =>
      lti (o371.1 + 1) fun v534 =>
      lti (v14 + 24) fun v535 =>
      lti (d2iF v528) fun v536 =>
      gd 20 v534 fun i537 =>
      lt (va_up f533 i537 v536) fun f538 =>
      K376 v534 v535 f538
    )
  )
  ) fun K11 =>
  (if 0 ≤ v9 then
    K11 v9
  else
    K11 0
  )
theorem hd_J13___kernel_rem_pio2 : Hd yJ13___kernel_rem_pio2 6 := by unfold Hd; decide +kernel
set_option maxHeartbeats 4000000 in
set_option maxRecDepth 100000 in
theorem m_J13___kernel_rem_pio2 {l : Launch} {D : DD} (x0 : Nat) (x1 : Nat) (x2 : Int32) (x3 : Int32) (x4 : Int32) (y0 : Nat → UInt64) (y1 : Nat → UInt64) (r : Int32 × (Nat → UInt64)) (h : f_J13___kernel_rem_pio2 y0 y1 x2 x3 x4 = some r) : MT l D yJ13___kernel_rem_pio2 cJ13___kernel_rem_pio2 27 (some .int) 5 1278 4 80 [.ref x0, .ref x1, .int x2, .int x3, .int x4, .ref (dN D 4)] (fun H => aD D x0 3 y0 H ∧ aD D x1 2 y1 H ∧ dB D ≤ x1 ∧ x0 ≠ x1) (pI (fun H b H' => b = r.1 ∧ aD D x1 2 r.2 H' ∧ Off (fun a => a = x1) H H')) := by
  refine MT.start (by decide +kernel) (Nat.le_of_ble_eq_true rfl) ?_
  intro p e s m below meth c ls hC hS hp hl
  obtain ⟨h_x0, h_x1, hB_h_x1, ne_x0_x1⟩ := hp
  obtain ⟨hx, hb, hr, hlk, hml, hown, hts, hnm⟩ := id hC
  have hl : lv_has ls 27 [(0, .ref x0), (1, .ref x1), (2, .int x2), (3, .int x3), (4, .int x4), (5, .ref (dN D 4))] := hl
  unfold f_J13___kernel_rem_pio2 at h
  have hS0 := hS
  obtain ⟨A, eA⟩ : ∃ A : Array Value, A = [.ref x0, .ref x1, .int x2, .int x3, .int x4, .ref (dN D 4)].toArray := ⟨_, rfl⟩
  rw [← eA] at hC hts ⊢
  obtain ⟨Q, eQ⟩ : ∃ Q : State → Prop, Q = MQ below (TQ D (pI (fun H b H' => b = r.1 ∧ aD D x1 2 r.2 H' ∧ Off (fun a => a = x1) H H'))) A s 4 80 (fun q => dB D ≤ q) := ⟨_, rfl⟩
  have hF : Off (fun a => a = x1) s.heap s.heap := Off.rf
  show W p l e R_J13___kernel_rem_pio2 s m A below meth c s.heap [] 0 0 _ _
  rw [← eQ]
  obtain ⟨H, eH⟩ : ∃ H : Heap, H = s.heap := ⟨_, rfl⟩
  obtain ⟨locs, eLc⟩ : ∃ L : List Loc, L = [] := ⟨_, rfl⟩
  rw [← eH, ← eLc]
  have hF : Off (fun a => a = x1) s.heap H := by rw [eH]; exact hF
  rw [← eH] at h_x0
  rw [← eH] at h_x1
  have hS : St D s H locs := by rw [eH, eLc]; exact hS
  refine lv_bipush (v := 20) hx hb dJ13___kernel_rem_pio2_0 (by decide) ?_
  refine r_newa hx hb hts hS (ty := .int) rfl q453 20 rfl (by decide) (by decide) (Nat.le_of_ble_eq_true rfl) (Nat.le_of_ble_eq_true rfl) dJ13___kernel_rem_pio2_2 (fun q1 H eq_q1 hS hE hq1 z_q1 hB_hq1 => ?_)
  have gq1 : s.heap.size ≤ q1 := by have := hF.1; omega
  have ne_h_x0_hq1 : x0 ≠ q1 := by have := h_x0.lt; omega
  have h_x0 := h_x0.ext hE
  have ne_h_x1_hq1 : x1 ≠ q1 := by have := h_x1.lt; omega
  have h_x1 := h_x1.ext hE
  have hF := hF.trans (hE.mono (fun _ _ z => z.elim))
  have hq1 : aI D q1 20 (fun _ => 0) H := hq1
  refine lv_astore (lv' := [(19, .ref q1), (0, .ref x0), (1, .ref x1), (2, .int x2), (3, .int x3), (4, .int x4), (5, .ref (dN D 4))]) hx hb dJ13___kernel_rem_pio2_4 hl (by decide) rfl (fun ls hl => ?_)
  refine lv_bipush (v := 20) hx hb dJ13___kernel_rem_pio2_6 (by decide) ?_
  refine r_newa hx hb hts hS (ty := .double) rfl q451 20 rfl (by decide) (by decide) (Nat.le_of_ble_eq_true rfl) (Nat.le_of_ble_eq_true rfl) dJ13___kernel_rem_pio2_8 (fun q2 H eq_q2 hS hE hq2 z_q2 hB_hq2 => ?_)
  have gq2 : s.heap.size ≤ q2 := by have := hF.1; omega
  have ne_h_x0_hq2 : x0 ≠ q2 := by have := h_x0.lt; omega
  have h_x0 := h_x0.ext hE
  have ne_h_x1_hq2 : x1 ≠ q2 := by have := h_x1.lt; omega
  have h_x1 := h_x1.ext hE
  have ne_hq1_hq2 : q1 ≠ q2 := by have := hq1.lt; omega
  have hq1 := hq1.ext hE
  have hF := hF.trans (hE.mono (fun _ _ z => z.elim))
  have hq2 : aD D q2 20 (fun _ => 0) H := hq2
  refine lv_astore (lv' := [(24, .ref q2), (19, .ref q1), (0, .ref x0), (1, .ref x1), (2, .int x2), (3, .int x3), (4, .int x4), (5, .ref (dN D 4))]) hx hb dJ13___kernel_rem_pio2_10 hl (by decide) rfl (fun ls hl => ?_)
  refine lv_bipush (v := 20) hx hb dJ13___kernel_rem_pio2_12 (by decide) ?_
  refine r_newa hx hb hts hS (ty := .double) rfl q451 20 rfl (by decide) (by decide) (Nat.le_of_ble_eq_true rfl) (Nat.le_of_ble_eq_true rfl) dJ13___kernel_rem_pio2_14 (fun q3 H eq_q3 hS hE hq3 z_q3 hB_hq3 => ?_)
  have gq3 : s.heap.size ≤ q3 := by have := hF.1; omega
  have ne_h_x0_hq3 : x0 ≠ q3 := by have := h_x0.lt; omega
  have h_x0 := h_x0.ext hE
  have ne_h_x1_hq3 : x1 ≠ q3 := by have := h_x1.lt; omega
  have h_x1 := h_x1.ext hE
  have ne_hq1_hq3 : q1 ≠ q3 := by have := hq1.lt; omega
  have hq1 := hq1.ext hE
  have ne_hq2_hq3 : q2 ≠ q3 := by have := hq2.lt; omega
  have hq2 := hq2.ext hE
  have hF := hF.trans (hE.mono (fun _ _ z => z.elim))
  have hq3 : aD D q3 20 (fun _ => 0) H := hq3
  refine lv_astore (lv' := [(25, .ref q3), (24, .ref q2), (19, .ref q1), (0, .ref x0), (1, .ref x1), (2, .int x2), (3, .int x3), (4, .int x4), (5, .ref (dN D 4))]) hx hb dJ13___kernel_rem_pio2_16 hl (by decide) rfl (fun ls hl => ?_)
  refine lv_bipush (v := 20) hx hb dJ13___kernel_rem_pio2_18 (by decide) ?_
  refine r_newa hx hb hts hS (ty := .double) rfl q451 20 rfl (by decide) (by decide) (Nat.le_of_ble_eq_true rfl) (Nat.le_of_ble_eq_true rfl) dJ13___kernel_rem_pio2_20 (fun q4 H eq_q4 hS hE hq4 z_q4 hB_hq4 => ?_)
  have gq4 : s.heap.size ≤ q4 := by have := hF.1; omega
  have ne_h_x0_hq4 : x0 ≠ q4 := by have := h_x0.lt; omega
  have h_x0 := h_x0.ext hE
  have ne_h_x1_hq4 : x1 ≠ q4 := by have := h_x1.lt; omega
  have h_x1 := h_x1.ext hE
  have ne_hq1_hq4 : q1 ≠ q4 := by have := hq1.lt; omega
  have hq1 := hq1.ext hE
  have ne_hq2_hq4 : q2 ≠ q4 := by have := hq2.lt; omega
  have hq2 := hq2.ext hE
  have ne_hq3_hq4 : q3 ≠ q4 := by have := hq3.lt; omega
  have hq3 := hq3.ext hE
  have hF := hF.trans (hE.mono (fun _ _ z => z.elim))
  have hq4 : aD D q4 20 (fun _ => 0) H := hq4
  refine lv_astore (lv' := [(26, .ref q4), (25, .ref q3), (24, .ref q2), (19, .ref q1), (0, .ref x0), (1, .ref x1), (2, .int x2), (3, .int x3), (4, .int x4), (5, .ref (dN D 4))]) hx hb dJ13___kernel_rem_pio2_22 hl (by decide) rfl (fun ls hl => ?_)
  refine r_gets hx hb hts hown hS 5 rfl q245 dJ13___kernel_rem_pio2_24 ?_
  refine lv_iload hx hb dJ13___kernel_rem_pio2_27 (lv_at hl 8 rfl) ?_
  obtain ⟨i5, xi5, h⟩ := gd_step (by decide) h
  refine r_iald hx hb hS (hS.1.RA hS.1.1.2.2.2.1.2.2.2.2.2.1) i5 xi5 dJ13___kernel_rem_pio2_29 ?_
  obtain ⟨v6, ev6, h⟩ := lti_step h
  refine r_nmI ev6 ?_
  refine lv_istore (lv' := [(10, .int v6), (26, .ref q4), (25, .ref q3), (24, .ref q2), (19, .ref q1), (0, .ref x0), (1, .ref x1), (2, .int x2), (3, .int x3), (4, .int x4), (5, .ref (dN D 4))]) hx hb dJ13___kernel_rem_pio2_30 hl (by decide) rfl (fun ls hl => ?_)
  refine lv_iload hx hb dJ13___kernel_rem_pio2_32 (lv_at hl 0 rfl) ?_
  refine lv_istore (lv' := [(9, .int v6), (10, .int v6), (26, .ref q4), (25, .ref q3), (24, .ref q2), (19, .ref q1), (0, .ref x0), (1, .ref x1), (2, .int x2), (3, .int x3), (4, .int x4), (5, .ref (dN D 4))]) hx hb dJ13___kernel_rem_pio2_34 hl (by decide) rfl (fun ls hl => ?_)
  refine lv_iload_n hx hb dJ13___kernel_rem_pio2_36 rfl (lv_at hl 9 rfl) ?_
  refine lv_iconst (v := 1) hx hb dJ13___kernel_rem_pio2_37 (by decide) ?_
  obtain ⟨v7, ev7, h⟩ := lti_step h
  refine r_isub hx hb ev7 dJ13___kernel_rem_pio2_38 ?_
  refine lv_istore (lv' := [(7, .int v7), (9, .int v6), (10, .int v6), (26, .ref q4), (25, .ref q3), (24, .ref q2), (19, .ref q1), (0, .ref x0), (1, .ref x1), (2, .int x2), (3, .int x3), (4, .int x4), (5, .ref (dN D 4))]) hx hb dJ13___kernel_rem_pio2_39 hl (by decide) rfl (fun ls hl => ?_)
  refine lv_iload_n hx hb dJ13___kernel_rem_pio2_41 rfl (lv_at hl 9 rfl) ?_
  refine lv_iconst (v := 3) hx hb dJ13___kernel_rem_pio2_42 (by decide) ?_
  obtain ⟨v8, ev8, h⟩ := lti_step h
  refine r_isub hx hb ev8 dJ13___kernel_rem_pio2_43 ?_
  refine lv_bipush (v := 24) hx hb dJ13___kernel_rem_pio2_44 (by decide) ?_
  obtain ⟨v9, ev9, h⟩ := lti_step h
  refine r_idiv hx hb ev9 (by decide) dJ13___kernel_rem_pio2_46 ?_
  refine lv_istore (lv' := [(8, .int v9), (7, .int v7), (9, .int v6), (10, .int v6), (26, .ref q4), (25, .ref q3), (24, .ref q2), (19, .ref q1), (0, .ref x0), (1, .ref x1), (2, .int x2), (3, .int x3), (4, .int x4), (5, .ref (dN D 4))]) hx hb dJ13___kernel_rem_pio2_47 hl (by decide) rfl (fun ls hl => ?_)
  refine lv_iload hx hb dJ13___kernel_rem_pio2_49 (lv_at hl 0 rfl) ?_
  obtain ⟨K11, eK11, h⟩ := lt_step h
  have HK11 : ∀ (v10 : Int32) (h : K11 v10 = some r) (H : Heap) (locs : List Loc) (hS : St D s H locs) (hF : Off (fun a => a = x1) s.heap H) (h_x0 : aD D x0 3 y0 H) (h_x1 : aD D x1 2 y1 H) (hq1 : aI D q1 20 (fun _ => 0) H) (hq2 : aD D q2 20 (fun _ => 0) H) (hq3 : aD D q3 20 (fun _ => 0) H) (hq4 : aD D q4 20 (fun _ => 0) H) (ls : Array Slot) (hl : lv_has ls 27 [(0, .ref x0), (1, .ref x1), (2, .int x2), (4, .int x4), (5, .ref (dN D 4)), (7, .int v7), (8, .int v10), (9, .int v6), (10, .int v6), (19, .ref q1), (24, .ref q2), (25, .ref q3), (26, .ref q4)]), W p l e R_J13___kernel_rem_pio2 s m A below meth c H locs 4 80 Q (F0 m 57 ls []) := by
    intro v10 h H locs hS hF h_x0 h_x1 hq1 hq2 hq3 hq4 ls hl
    subst eK11
    refine lv_iload_n hx hb dJ13___kernel_rem_pio2_57 rfl (lv_at hl 2 rfl) ?_
    refine lv_bipush (v := 24) hx hb dJ13___kernel_rem_pio2_58 (by decide) ?_
    refine lv_iload hx hb dJ13___kernel_rem_pio2_60 (lv_at hl 6 rfl) ?_
    refine lv_iconst (v := 1) hx hb dJ13___kernel_rem_pio2_62 (by decide) ?_
    obtain ⟨v12, ev12, h⟩ := lti_step h
    refine r_iadd hx hb ev12 dJ13___kernel_rem_pio2_63 ?_
    obtain ⟨v13, ev13, h⟩ := lti_step h
    refine r_imul hx hb ev13 dJ13___kernel_rem_pio2_64 ?_
    obtain ⟨v14, ev14, h⟩ := lti_step h
    refine r_isub hx hb ev14 dJ13___kernel_rem_pio2_65 ?_
    refine lv_istore (lv' := [(17, .int v14), (0, .ref x0), (1, .ref x1), (2, .int x2), (4, .int x4), (5, .ref (dN D 4)), (7, .int v7), (8, .int v10), (9, .int v6), (10, .int v6), (19, .ref q1), (24, .ref q2), (25, .ref q3), (26, .ref q4)]) hx hb dJ13___kernel_rem_pio2_66 hl (by decide) rfl (fun ls hl => ?_)
    refine lv_iload hx hb dJ13___kernel_rem_pio2_68 (lv_at hl 7 rfl) ?_
    refine lv_iload hx hb dJ13___kernel_rem_pio2_70 (lv_at hl 6 rfl) ?_
    obtain ⟨v15, ev15, h⟩ := lti_step h
    refine r_isub hx hb ev15 dJ13___kernel_rem_pio2_72 ?_
    refine lv_istore (lv' := [(14, .int v15), (17, .int v14), (0, .ref x0), (1, .ref x1), (2, .int x2), (4, .int x4), (5, .ref (dN D 4)), (7, .int v7), (8, .int v10), (9, .int v6), (10, .int v6), (19, .ref q1), (24, .ref q2), (25, .ref q3), (26, .ref q4)]) hx hb dJ13___kernel_rem_pio2_73 hl (by decide) rfl (fun ls hl => ?_)
    refine lv_iload hx hb dJ13___kernel_rem_pio2_75 (lv_at hl 7 rfl) ?_
    refine lv_iload hx hb dJ13___kernel_rem_pio2_77 (lv_at hl 10 rfl) ?_
    obtain ⟨v16, ev16, h⟩ := lti_step h
    refine r_iadd hx hb ev16 dJ13___kernel_rem_pio2_79 ?_
    refine lv_istore (lv' := [(16, .int v16), (14, .int v15), (17, .int v14), (0, .ref x0), (1, .ref x1), (2, .int x2), (4, .int x4), (5, .ref (dN D 4)), (7, .int v7), (8, .int v10), (9, .int v6), (10, .int v6), (19, .ref q1), (24, .ref q2), (25, .ref q3), (26, .ref q4)]) hx hb dJ13___kernel_rem_pio2_80 hl (by decide) rfl (fun ls hl => ?_)
    refine lv_iconst (v := 0) hx hb dJ13___kernel_rem_pio2_82 (by decide) ?_
    refine lv_istore (lv' := [(13, .int 0), (16, .int v16), (14, .int v15), (17, .int v14), (0, .ref x0), (1, .ref x1), (2, .int x2), (4, .int x4), (5, .ref (dN D 4)), (7, .int v7), (8, .int v10), (9, .int v6), (10, .int v6), (19, .ref q1), (24, .ref q2), (25, .ref q3), (26, .ref q4)]) hx hb dJ13___kernel_rem_pio2_83 hl (by decide) rfl (fun ls hl => ?_)
    obtain ⟨o45, eo45, h⟩ := bind_step h
    refine b_J13___kernel_rem_pio2_85 hC hS0 ne_x0_x1 ne_h_x0_hq1 ne_h_x1_hq1 ne_h_x0_hq2 ne_h_x1_hq2 ne_hq1_hq2 ne_h_x0_hq3 ne_h_x1_hq3 ne_hq1_hq3 ne_hq2_hq3 ne_h_x0_hq4 ne_h_x1_hq4 ne_hq1_hq4 ne_hq2_hq4 ne_hq3_hq4 gq1 gq2 gq3 gq4 hB_h_x1 hB_hq1 hB_hq2 hB_hq3 hB_hq4 64 0 v15 (fun _ => 0) o45 eo45 H locs hS hF h_x0 h_x1 hq1 hq2 hq3 hq4 ls (lv_sub hl [4, 5, 7, 8, 9, 10, 11, 12, 0, 2, 1, 3, 13, 14, 15, 16] rfl) (fun H locs hS hF h_x0 h_x1 hq1 hq2 hq3 hq4 ls hl => ?_)
    refine lv_iconst (v := 0) hx hb dJ13___kernel_rem_pio2_121 (by decide) ?_
    refine lv_istore (lv' := [(13, .int 0), (0, .ref x0), (1, .ref x1), (4, .int x4), (5, .ref (dN D 4)), (7, .int v7), (8, .int v10), (9, .int v6), (10, .int v6), (17, .int v14), (19, .ref q1), (24, .ref q2), (25, .ref q3), (26, .ref q4)]) hx hb dJ13___kernel_rem_pio2_122 hl (by decide) rfl (fun ls hl => ?_)
    obtain ⟨o95, eo95, h⟩ := bind_step h
    refine b_J13___kernel_rem_pio2_124 hC hS0 ne_x0_x1 ne_h_x0_hq1 ne_h_x1_hq1 ne_h_x0_hq2 ne_h_x1_hq2 ne_hq1_hq2 ne_h_x0_hq3 ne_h_x1_hq3 ne_hq1_hq3 ne_hq2_hq3 ne_h_x0_hq4 ne_h_x1_hq4 ne_hq1_hq4 ne_hq2_hq4 ne_hq3_hq4 gq1 gq2 gq3 gq4 hB_h_x1 hB_hq1 hB_hq2 hB_hq3 hB_hq4 64 0 (fun _ => 0) o95 eo95 H locs hS hF h_x0 h_x1 hq1 hq2 hq3 hq4 ls (lv_sub hl [1, 2, 3, 4, 5, 6, 7, 8, 0, 9, 10, 11, 12, 13] rfl) (fun H locs hS hF h_x0 h_x1 hq1 hq2 hq3 hq4 ls hl => ?_)
    refine lv_iload hx hb dJ13___kernel_rem_pio2_184 (lv_at hl 7 rfl) ?_
    refine lv_istore (lv' := [(6, .int v6), (0, .ref x0), (1, .ref x1), (4, .int x4), (5, .ref (dN D 4)), (7, .int v7), (8, .int v10), (9, .int v6), (10, .int v6), (17, .int v14), (19, .ref q1), (24, .ref q2), (25, .ref q3), (26, .ref q4)]) hx hb dJ13___kernel_rem_pio2_186 hl (by decide) rfl (fun ls hl => ?_)
    obtain ⟨o371, eo371, h⟩ := bind_step h
    refine b_J13___kernel_rem_pio2_188 hC hS0 ne_x0_x1 ne_h_x0_hq1 ne_h_x1_hq1 ne_h_x0_hq2 ne_h_x1_hq2 ne_hq1_hq2 ne_h_x0_hq3 ne_h_x1_hq3 ne_hq1_hq3 ne_hq2_hq3 ne_h_x0_hq4 ne_h_x1_hq4 ne_hq1_hq4 ne_hq2_hq4 ne_hq3_hq4 gq1 gq2 gq3 gq4 hB_h_x1 hB_hq1 hB_hq2 hB_hq3 hB_hq4 64 v6 (fun _ => 0) o45 o95 o371 eo371 H locs hS hF h_x0 h_x1 hq1 hq2 hq3 hq4 ls (lv_sub hl [1, 2, 3, 4, 0, 5, 6, 7, 8, 9, 10, 11, 12, 13] rfl) (fun H locs hS hF h_x0 h_x1 hq1 hq2 hq3 hq4 ls hl => ?_)
    refine lv_dload hx hb dJ13___kernel_rem_pio2_711 (lv_at hl 8 rfl) ?_
    refine lv_dconst0 hx hb dJ13___kernel_rem_pio2_713 ?_
    obtain ⟨v372, ev372, h⟩ := lti_step h
    refine r_dcmp hx hb ev372 dJ13___kernel_rem_pio2_714 ?_
    obtain ⟨K376, eK376, h⟩ := lt_step h
    have HK376 : ∀ (v373 : Int32) (v374 : Int32) (f375 : Nat → Int32) (h : K376 v373 v374 f375 = some r) (H : Heap) (locs : List Loc) (hS : St D s H locs) (hF : Off (fun a => a = x1) s.heap H) (h_x0 : aD D x0 3 y0 H) (h_x1 : aD D x1 2 y1 H) (hq1 : aI D q1 20 f375 H) (hq2 : aD D q2 20 o371.2.2.2.2.2.1 H) (hq3 : aD D q3 20 (fun _ => 0) H) (hq4 : aD D q4 20 o371.2.2.2.2.2.2 H) (ls : Array Slot) (hl : lv_has ls 27 [(1, .ref x1), (4, .int x4), (6, .int v373), (9, .int v6), (12, .int o371.2.1), (17, .int v374), (18, .int o371.2.2.1), (19, .ref q1), (25, .ref q3), (26, .ref q4)]), W p l e R_J13___kernel_rem_pio2 s m A below meth c H locs 4 80 Q (F0 m 810 ls []) := by
      intro v373 v374 f375 h H locs hS hF h_x0 h_x1 hq1 hq2 hq3 hq4 ls hl
      subst eK376
      refine lv_dconst1 hx hb dJ13___kernel_rem_pio2_810 ?_
      refine lv_iload hx hb dJ13___kernel_rem_pio2_811 (lv_at hl 5 rfl) ?_
      obtain ⟨o377, eo377, h⟩ := bind_step h
      refine r_cp (r_runS (rest := []) (As := [.double 4607182418800017408, .int v374]) hC 2 (m_J12_scalb 4607182418800017408 v374  o377 eo377) q249 q250 q53 q251 hd_J12_scalb rfl ⟨Nat.le_of_ble_eq_true rfl, Nat.le_of_ble_eq_true rfl⟩ hS trivial hl.1 rfl (Nat.le_of_ble_eq_true rfl) dJ13___kernel_rem_pio2_813 ⟨Nat.le_of_ble_eq_true rfl, Nat.le_of_ble_eq_true rfl⟩) ?_
      refine lv_dstore (lv' := [(22, .double o377), (1, .ref x1), (4, .int x4), (6, .int v373), (9, .int v6), (12, .int o371.2.1), (17, .int v374), (18, .int o371.2.2.1), (19, .ref q1), (25, .ref q3), (26, .ref q4)]) hx hb dJ13___kernel_rem_pio2_816 hl (by decide) rfl (fun ls hl => ?_)
      refine lv_iload hx hb dJ13___kernel_rem_pio2_818 (lv_at hl 3 rfl) ?_
      refine lv_istore (lv' := [(13, .int v373), (22, .double o377), (1, .ref x1), (4, .int x4), (6, .int v373), (9, .int v6), (12, .int o371.2.1), (17, .int v374), (18, .int o371.2.2.1), (19, .ref q1), (25, .ref q3), (26, .ref q4)]) hx hb dJ13___kernel_rem_pio2_820 hl (by decide) rfl (fun ls hl => ?_)
      obtain ⟨o404, eo404, h⟩ := bind_step h
      refine b_J13___kernel_rem_pio2_822 hC hS0 ne_x0_x1 ne_h_x0_hq1 ne_h_x1_hq1 ne_h_x0_hq2 ne_h_x1_hq2 ne_hq1_hq2 ne_h_x0_hq3 ne_h_x1_hq3 ne_hq1_hq3 ne_hq2_hq3 ne_h_x0_hq4 ne_h_x1_hq4 ne_hq1_hq4 ne_hq2_hq4 ne_hq3_hq4 gq1 gq2 gq3 gq4 hB_h_x1 hB_hq1 hB_hq2 hB_hq3 hB_hq4 64 v373 o377 o371.2.2.2.2.2.2 o404 eo404 H locs hS hF h_x0 h_x1 hq1 hq2 hq3 hq4 ls (lv_sub hl [2, 3, 4, 5, 6, 0, 8, 9, 1, 10, 11] rfl) (fun H locs hS hF h_x0 h_x1 hq1 hq2 hq3 hq4 ls hl => ?_)
      refine lv_iload hx hb dJ13___kernel_rem_pio2_855 (lv_at hl 2 rfl) ?_
      refine lv_istore (lv' := [(13, .int v373), (1, .ref x1), (4, .int x4), (6, .int v373), (9, .int v6), (12, .int o371.2.1), (18, .int o371.2.2.1), (25, .ref q3), (26, .ref q4)]) hx hb dJ13___kernel_rem_pio2_857 hl (by decide) rfl (fun ls hl => ?_)
      obtain ⟨o456, eo456, h⟩ := bind_step h
      refine b_J13___kernel_rem_pio2_859 hC hS0 ne_x0_x1 ne_h_x0_hq1 ne_h_x1_hq1 ne_h_x0_hq2 ne_h_x1_hq2 ne_hq1_hq2 ne_h_x0_hq3 ne_h_x1_hq3 ne_hq1_hq3 ne_hq2_hq3 ne_h_x0_hq4 ne_h_x1_hq4 ne_hq1_hq4 ne_hq2_hq4 ne_hq3_hq4 gq1 gq2 gq3 gq4 hB_h_x1 hB_hq1 hB_hq2 hB_hq3 hB_hq4 64 v373 (fun _ => 0) o456 eo456 H locs hS hF h_x0 h_x1 hq1 hq2 hq3 hq4 ls (lv_sub hl [1, 2, 3, 4, 5, 0, 6, 7, 8] rfl) (fun H locs hS hF h_x0 h_x1 hq1 hq2 hq3 hq4 ls hl => ?_)
      refine lv_iload hx hb dJ13___kernel_rem_pio2_929 (lv_at hl 1 rfl) ?_
      obtain ⟨K457, eK457, h⟩ := lt_step h
      have HK457 : ∀  (h : K457 () = some r) (H : Heap) (locs : List Loc) (hS : St D s H locs) (hF : Off (fun a => a = x1) s.heap H) (h_x0 : aD D x0 3 y0 H) (h_x1 : aD D x1 2 y1 H) (hq1 : aI D q1 20 f375 H) (hq2 : aD D q2 20 o371.2.2.2.2.2.1 H) (hq3 : aD D q3 20 o456 H) (hq4 : aD D q4 20 o404 H) (ls : Array Slot) (hl : lv_has ls 27 [(1, .ref x1), (6, .int v373), (12, .int o371.2.1), (18, .int o371.2.2.1), (25, .ref q3)]), W p l e R_J13___kernel_rem_pio2 s m A below meth c H locs 4 80 Q (F0 m 1007 ls []) := by
        intro h H locs hS hF h_x0 h_x1 hq1 hq2 hq3 hq4 ls hl
        subst eK457
        refine lv_dconst0 hx hb dJ13___kernel_rem_pio2_1007 ?_
        refine lv_dstore (lv' := [(22, .double 0), (1, .ref x1), (6, .int v373), (12, .int o371.2.1), (18, .int o371.2.2.1), (25, .ref q3)]) hx hb dJ13___kernel_rem_pio2_1008 hl (by decide) rfl (fun ls hl => ?_)
        refine lv_iload hx hb dJ13___kernel_rem_pio2_1010 (lv_at hl 2 rfl) ?_
        refine lv_istore (lv' := [(13, .int v373), (22, .double 0), (1, .ref x1), (6, .int v373), (12, .int o371.2.1), (18, .int o371.2.2.1), (25, .ref q3)]) hx hb dJ13___kernel_rem_pio2_1012 hl (by decide) rfl (fun ls hl => ?_)
        obtain ⟨o478, eo478, h⟩ := bind_step h
        refine b_J13___kernel_rem_pio2_1014 hC hS0 ne_x0_x1 ne_h_x0_hq1 ne_h_x1_hq1 ne_h_x0_hq2 ne_h_x1_hq2 ne_hq1_hq2 ne_h_x0_hq3 ne_h_x1_hq3 ne_hq1_hq3 ne_hq2_hq3 ne_h_x0_hq4 ne_h_x1_hq4 ne_hq1_hq4 ne_hq2_hq4 ne_hq3_hq4 gq1 gq2 gq3 gq4 hB_h_x1 hB_hq1 hB_hq2 hB_hq3 hB_hq4 64 v373 0 o478 eo478 H locs hS hF h_x0 h_x1 hq1 hq2 hq3 hq4 ls (lv_sub hl [2, 3, 4, 0, 5, 1, 6] rfl) (fun H locs hS hF h_x0 h_x1 hq1 hq2 hq3 hq4 ls hl => ?_)
        refine lv_aload_n hx hb dJ13___kernel_rem_pio2_1035 rfl (lv_at hl 0 rfl) ?_
        refine lv_iconst (v := 0) hx hb dJ13___kernel_rem_pio2_1036 (by decide) ?_
        refine lv_iload hx hb dJ13___kernel_rem_pio2_1037 (lv_at hl 3 rfl) ?_
        obtain ⟨K480, eK480, h⟩ := lt_step h
        have HK480 : ∀ (v479 : UInt64) (h : K480 v479 = some r) (H : Heap) (locs : List Loc) (hS : St D s H locs) (hF : Off (fun a => a = x1) s.heap H) (h_x0 : aD D x0 3 y0 H) (h_x1 : aD D x1 2 y1 H) (hq1 : aI D q1 20 f375 H) (hq2 : aD D q2 20 o371.2.2.2.2.2.1 H) (hq3 : aD D q3 20 o456 H) (hq4 : aD D q4 20 o404 H) (ls : Array Slot) (hl : lv_has ls 27 [(1, .ref x1), (6, .int v373), (12, .int o371.2.1), (18, .int o371.2.2.1), (22, .double o478), (25, .ref q3)]), W p l e R_J13___kernel_rem_pio2 s m A below meth c H locs 4 80 Q (F0 m 1050 ls [.double v479, .int 0, .ref x1]) := by
          intro v479 h H locs hS hF h_x0 h_x1 hq1 hq2 hq3 hq4 ls hl
          subst eK480
          obtain ⟨f481, ef481, h⟩ := lt_step h
          refine r_dast hx hb hS h_x1 hB_h_x1 0 ⟨rfl, by decide, by decide⟩ dJ13___kernel_rem_pio2_1050 (fun H locs hS hO h_x1 => ?_)
          have h_x1 : aD D x1 2 f481 H := by rw [ef481]; exact h_x1
          have h_x0 := h_x0.off hO ne_x0_x1
          have hq1 := hq1.off hO (Ne.symm ne_h_x1_hq1)
          have hq2 := hq2.off hO (Ne.symm ne_h_x1_hq2)
          have hq3 := hq3.off hO (Ne.symm ne_h_x1_hq3)
          have hq4 := hq4.off hO (Ne.symm ne_h_x1_hq4)
          have hF := hF.trans (hO.mono (fun _ _ z => z))
          refine lv_aload hx hb dJ13___kernel_rem_pio2_1051 (lv_at hl 5 rfl) ?_
          refine lv_iconst (v := 0) hx hb dJ13___kernel_rem_pio2_1053 (by decide) ?_
          refine r_dald hx hb hS hq3 0 ⟨rfl, by decide, by decide⟩ dJ13___kernel_rem_pio2_1054 ?_
          obtain ⟨v482, ev482, h⟩ := ltd_step h
          refine r_nmD ev482 ?_
          refine lv_dload hx hb dJ13___kernel_rem_pio2_1055 (lv_at hl 4 rfl) ?_
          obtain ⟨v483, ev483, nv483, h⟩ := ck_step h
          refine r_dsub hx hb ev483 nv483 dJ13___kernel_rem_pio2_1057 ?_
          refine lv_dstore (lv' := [(22, .double v483), (1, .ref x1), (6, .int v373), (12, .int o371.2.1), (18, .int o371.2.2.1), (25, .ref q3)]) hx hb dJ13___kernel_rem_pio2_1058 hl (by decide) rfl (fun ls hl => ?_)
          refine lv_iconst (v := 1) hx hb dJ13___kernel_rem_pio2_1060 (by decide) ?_
          refine lv_istore (lv' := [(13, .int 1), (22, .double v483), (1, .ref x1), (6, .int v373), (12, .int o371.2.1), (18, .int o371.2.2.1), (25, .ref q3)]) hx hb dJ13___kernel_rem_pio2_1061 hl (by decide) rfl (fun ls hl => ?_)
          obtain ⟨o504, eo504, h⟩ := bind_step h
          refine b_J13___kernel_rem_pio2_1063 hC hS0 ne_x0_x1 ne_h_x0_hq1 ne_h_x1_hq1 ne_h_x0_hq2 ne_h_x1_hq2 ne_hq1_hq2 ne_h_x0_hq3 ne_h_x1_hq3 ne_hq1_hq3 ne_hq2_hq3 ne_h_x0_hq4 ne_h_x1_hq4 ne_hq1_hq4 ne_hq2_hq4 ne_hq3_hq4 gq1 gq2 gq3 gq4 hB_h_x1 hB_hq1 hB_hq2 hB_hq3 hB_hq4 64 1 v483 o504 eo504 H locs hS hF h_x0 h_x1 hq1 hq2 hq3 hq4 ls (lv_sub hl [2, 3, 4, 0, 5, 1, 6] rfl) (fun H locs hS hF h_x0 h_x1 hq1 hq2 hq3 hq4 ls hl => ?_)
          refine lv_aload_n hx hb dJ13___kernel_rem_pio2_1086 rfl (lv_at hl 0 rfl) ?_
          refine lv_iconst (v := 1) hx hb dJ13___kernel_rem_pio2_1087 (by decide) ?_
          refine lv_iload hx hb dJ13___kernel_rem_pio2_1088 (lv_at hl 2 rfl) ?_
          obtain ⟨K506, eK506, h⟩ := lt_step h
          have HK506 : ∀ (v505 : UInt64) (h : K506 v505 = some r) (H : Heap) (locs : List Loc) (hS : St D s H locs) (hF : Off (fun a => a = x1) s.heap H) (h_x0 : aD D x0 3 y0 H) (h_x1 : aD D x1 2 f481 H) (hq1 : aI D q1 20 f375 H) (hq2 : aD D q2 20 o371.2.2.2.2.2.1 H) (hq3 : aD D q3 20 o456 H) (hq4 : aD D q4 20 o404 H) (ls : Array Slot) (hl : lv_has ls 27 [(12, .int o371.2.1)]), W p l e R_J13___kernel_rem_pio2 s m A below meth c H locs 4 80 Q (F0 m 1101 ls [.double v505, .int 1, .ref x1]) := by
            intro v505 h H locs hS hF h_x0 h_x1 hq1 hq2 hq3 hq4 ls hl
            subst eK506
            obtain ⟨f507, ef507, h⟩ := lt_step h
            refine r_dast hx hb hS h_x1 hB_h_x1 1 ⟨rfl, by decide, by decide⟩ dJ13___kernel_rem_pio2_1101 (fun H locs hS hO h_x1 => ?_)
            have h_x1 : aD D x1 2 f507 H := by rw [ef507]; exact h_x1
            have h_x0 := h_x0.off hO ne_x0_x1
            have hq1 := hq1.off hO (Ne.symm ne_h_x1_hq1)
            have hq2 := hq2.off hO (Ne.symm ne_h_x1_hq2)
            have hq3 := hq3.off hO (Ne.symm ne_h_x1_hq3)
            have hq4 := hq4.off hO (Ne.symm ne_h_x1_hq4)
            have hF := hF.trans (hO.mono (fun _ _ z => z))
            refine lv_goto (tgt := 1298) hx hb dJ13___kernel_rem_pio2_1102 (by decide) ?_
            refine lv_iload hx hb dJ13___kernel_rem_pio2_1298 (lv_at hl 0 rfl) ?_
            refine lv_bipush (v := 7) hx hb dJ13___kernel_rem_pio2_1300 (by decide) ?_
            obtain ⟨v508, ev508, h⟩ := lti_step h
            refine r_iand hx hb ev508 dJ13___kernel_rem_pio2_1302 ?_
            obtain rfl := Option.some.inj h
            rw [eQ]
            exact r_iret hx hb hr hlk hS (Nat.le_of_ble_eq_true rfl) (Nat.le_of_ble_eq_true rfl) dJ13___kernel_rem_pio2_1303 ⟨_, rfl, rfl, h_x1, hF⟩
          clear eK506
          refine lv_if_ne (tgt := 1098) hx hb dJ13___kernel_rem_pio2_1090 (by decide) (fun c509 => ?_) (fun c509 => ?_)
          · have h := it_neg h c509
            refine lv_dload hx hb dJ13___kernel_rem_pio2_1098 (lv_at hl 3 rfl) ?_
            obtain ⟨v510, ev510, h⟩ := ltd_step h
            refine r_dneg hx hb ev510 dJ13___kernel_rem_pio2_1100 ?_
            exact HK506 v510 h H locs hS hF h_x0 h_x1 hq1 hq2 hq3 hq4 ls (lv_sub hl [1] rfl)
          · have h := it_pos h c509
            refine lv_dload hx hb dJ13___kernel_rem_pio2_1093 (lv_at hl 3 rfl) ?_
            refine lv_goto (tgt := 1101) hx hb dJ13___kernel_rem_pio2_1095 (by decide) ?_
            exact HK506 o504 h H locs hS hF h_x0 h_x1 hq1 hq2 hq3 hq4 ls (lv_sub hl [1] rfl)
        clear eK480
        refine lv_if_ne (tgt := 1047) hx hb dJ13___kernel_rem_pio2_1039 (by decide) (fun c511 => ?_) (fun c511 => ?_)
        · have h := it_neg h c511
          refine lv_dload hx hb dJ13___kernel_rem_pio2_1047 (lv_at hl 4 rfl) ?_
          obtain ⟨v512, ev512, h⟩ := ltd_step h
          refine r_dneg hx hb ev512 dJ13___kernel_rem_pio2_1049 ?_
          exact HK480 v512 h H locs hS hF h_x0 h_x1 hq1 hq2 hq3 hq4 ls (lv_sub hl [0, 1, 2, 3, 4, 5] rfl)
        · have h := it_pos h c511
          refine lv_dload hx hb dJ13___kernel_rem_pio2_1042 (lv_at hl 4 rfl) ?_
          refine lv_goto (tgt := 1050) hx hb dJ13___kernel_rem_pio2_1044 (by decide) ?_
          exact HK480 o478 h H locs hS hF h_x0 h_x1 hq1 hq2 hq3 hq4 ls (lv_sub hl [0, 1, 2, 3, 4, 5] rfl)
      clear eK457
      by_cases c513 : x4 = 0
      · have h := it_pos h c513
        refine r_tabIn (z := 0) (off := 29) (tgt := 960) hx hb c513 dJ13___kernel_rem_pio2_931 (by decide) (by decide) (by decide) (by decide) ?_
        cases h
      have h := it_neg h c513
      by_cases c514 : x4 = 1
      · have h := it_pos h c514
        refine r_tabIn (z := 1) (off := 76) (tgt := 1007) hx hb c514 dJ13___kernel_rem_pio2_931 (by decide) (by decide) (by decide) (by decide) ?_
        exact HK457  h H locs hS hF h_x0 h_x1 hq1 hq2 hq3 hq4 ls (lv_sub hl [0, 2, 3, 4, 5] rfl)
      have h := it_neg h c514
      by_cases c515 : x4 = 2
      · have h := it_pos h c515
        refine r_tabIn (z := 2) (off := 76) (tgt := 1007) hx hb c515 dJ13___kernel_rem_pio2_931 (by decide) (by decide) (by decide) (by decide) ?_
        exact HK457  h H locs hS hF h_x0 h_x1 hq1 hq2 hq3 hq4 ls (lv_sub hl [0, 2, 3, 4, 5] rfl)
      have h := it_neg h c515
      by_cases c516 : x4 = 3
      · have h := it_pos h c516
        refine r_tabIn (z := 3) (off := 174) (tgt := 1105) hx hb c516 dJ13___kernel_rem_pio2_931 (by decide) (by decide) (by decide) (by decide) ?_
        cases h
      have h := it_neg h c516
      refine lv_tableOut (tgt := 1298) hx hb dJ13___kernel_rem_pio2_931 (tab_out4 c513 c514 c515 c516) (by decide) ?_
      refine lv_iload hx hb dJ13___kernel_rem_pio2_1298 (lv_at hl 3 rfl) ?_
      refine lv_bipush (v := 7) hx hb dJ13___kernel_rem_pio2_1300 (by decide) ?_
      obtain ⟨v517, ev517, h⟩ := lti_step h
      refine r_iand hx hb ev517 dJ13___kernel_rem_pio2_1302 ?_
      obtain rfl := Option.some.inj h
      rw [eQ]
      exact r_iret hx hb hr hlk hS (Nat.le_of_ble_eq_true rfl) (Nat.le_of_ble_eq_true rfl) dJ13___kernel_rem_pio2_1303 ⟨_, rfl, rfl, h_x1, hF⟩
    clear eK376
    refine lv_if_ne (tgt := 741) hx hb dJ13___kernel_rem_pio2_715 (by decide) (fun c518 => ?_) (fun c518 => ?_)
    · have h := it_neg h c518
      refine lv_dload hx hb dJ13___kernel_rem_pio2_741 (lv_at hl 8 rfl) ?_
      refine lv_iload hx hb dJ13___kernel_rem_pio2_743 (lv_at hl 5 rfl) ?_
      obtain ⟨v519, ev519, h⟩ := lti_step h
      refine r_ineg hx hb ev519 dJ13___kernel_rem_pio2_745 ?_
      obtain ⟨o520, eo520, h⟩ := bind_step h
      refine r_cp (r_runS (rest := []) (As := [.double o371.2.2.2.1, .int v519]) hC 2 (m_J12_scalb o371.2.2.2.1 v519  o520 eo520) q249 q250 q53 q251 hd_J12_scalb rfl ⟨Nat.le_of_ble_eq_true rfl, Nat.le_of_ble_eq_true rfl⟩ hS trivial hl.1 rfl (Nat.le_of_ble_eq_true rfl) dJ13___kernel_rem_pio2_746 ⟨Nat.le_of_ble_eq_true rfl, Nat.le_of_ble_eq_true rfl⟩) ?_
      refine lv_dstore (lv' := [(20, .double o520), (1, .ref x1), (4, .int x4), (6, .int o371.1), (9, .int v6), (12, .int o371.2.1), (17, .int v14), (18, .int o371.2.2.1), (19, .ref q1), (25, .ref q3), (26, .ref q4)]) hx hb dJ13___kernel_rem_pio2_749 hl (by decide) rfl (fun ls hl => ?_)
      refine lv_dload hx hb dJ13___kernel_rem_pio2_751 (lv_at hl 0 rfl) ?_
      refine lv_ldc2d hx hb (v := 4715268809856909312) hown (hts _ q248) dJ13___kernel_rem_pio2_753 ?_
      obtain ⟨v521, ev521, h⟩ := lti_step h
      refine r_dcmp hx hb ev521 dJ13___kernel_rem_pio2_756 ?_
      refine lv_if_lt (tgt := 802) hx hb dJ13___kernel_rem_pio2_757 (by decide) (fun c522 => ?_) (fun c522 => ?_)
      · have h := it_pos h c522
        refine lv_aload hx hb dJ13___kernel_rem_pio2_802 (lv_at hl 8 rfl) ?_
        refine lv_iload hx hb dJ13___kernel_rem_pio2_804 (lv_at hl 3 rfl) ?_
        refine lv_dload hx hb dJ13___kernel_rem_pio2_806 (lv_at hl 0 rfl) ?_
        obtain ⟨v523, ev523, h⟩ := lti_step h
        refine r_d2i hx hb ev523 dJ13___kernel_rem_pio2_808 ?_
        obtain ⟨i524, xi524, h⟩ := gd_step (by decide) h
        obtain ⟨f525, ef525, h⟩ := lt_step h
        refine r_iast hx hb hS hq1 hB_hq1 i524 xi524 dJ13___kernel_rem_pio2_809 (fun H locs hS hO hq1 => ?_)
        have hq1 : aI D q1 20 f525 H := by rw [ef525]; exact hq1
        have h_x0 := h_x0.off hO ne_h_x0_hq1
        have h_x1 := h_x1.off hO ne_h_x1_hq1
        have hq2 := hq2.off hO (Ne.symm ne_hq1_hq2)
        have hq3 := hq3.off hO (Ne.symm ne_hq1_hq3)
        have hq4 := hq4.off hO (Ne.symm ne_hq1_hq4)
        have hF := hF.fresh hO (fun a ha z => absurd (z ▸ ha) (Nat.not_lt.mpr gq1))
        exact HK376 o371.1 v14 f525 h H locs hS hF h_x0 h_x1 hq1 hq2 hq3 hq4 ls (lv_sub hl [1, 2, 3, 4, 5, 6, 7, 8, 9, 10] rfl)
      · have h := it_neg h c522
        refine lv_ldc2d hx hb (v := 4499096027743125504) hown (hts _ q247) dJ13___kernel_rem_pio2_760 ?_
        refine lv_dload hx hb dJ13___kernel_rem_pio2_763 (lv_at hl 0 rfl) ?_
        obtain ⟨v526, ev526, nv526, h⟩ := ck_step h
        refine r_dmul hx hb ev526 nv526 dJ13___kernel_rem_pio2_765 ?_
        obtain ⟨v527, ev527, h⟩ := lti_step h
        refine r_d2i hx hb ev527 dJ13___kernel_rem_pio2_766 ?_
        obtain ⟨v528, ev528, h⟩ := ltd_step h
        refine r_i2d hx hb ev528 dJ13___kernel_rem_pio2_767 ?_
        refine lv_dstore (lv' := [(22, .double v528), (20, .double o520), (1, .ref x1), (4, .int x4), (6, .int o371.1), (9, .int v6), (12, .int o371.2.1), (17, .int v14), (18, .int o371.2.2.1), (19, .ref q1), (25, .ref q3), (26, .ref q4)]) hx hb dJ13___kernel_rem_pio2_768 hl (by decide) rfl (fun ls hl => ?_)
        refine lv_aload hx hb dJ13___kernel_rem_pio2_770 (lv_at hl 9 rfl) ?_
        refine lv_iload hx hb dJ13___kernel_rem_pio2_772 (lv_at hl 4 rfl) ?_
        refine lv_dload hx hb dJ13___kernel_rem_pio2_774 (lv_at hl 1 rfl) ?_
        refine lv_ldc2d hx hb (v := 4715268809856909312) hown (hts _ q248) dJ13___kernel_rem_pio2_776 ?_
        refine lv_dload hx hb dJ13___kernel_rem_pio2_779 (lv_at hl 0 rfl) ?_
        obtain ⟨v529, ev529, nv529, h⟩ := ck_step h
        refine r_dmul hx hb ev529 nv529 dJ13___kernel_rem_pio2_781 ?_
        obtain ⟨v530, ev530, nv530, h⟩ := ck_step h
        refine r_dsub hx hb ev530 nv530 dJ13___kernel_rem_pio2_782 ?_
        obtain ⟨v531, ev531, h⟩ := lti_step h
        refine r_d2i hx hb ev531 dJ13___kernel_rem_pio2_783 ?_
        obtain ⟨i532, xi532, h⟩ := gd_step (by decide) h
        obtain ⟨f533, ef533, h⟩ := lt_step h
        refine r_iast hx hb hS hq1 hB_hq1 i532 xi532 dJ13___kernel_rem_pio2_784 (fun H locs hS hO hq1 => ?_)
        have hq1 : aI D q1 20 f533 H := by rw [ef533]; exact hq1
        have h_x0 := h_x0.off hO ne_h_x0_hq1
        have h_x1 := h_x1.off hO ne_h_x1_hq1
        have hq2 := hq2.off hO (Ne.symm ne_hq1_hq2)
        have hq3 := hq3.off hO (Ne.symm ne_hq1_hq3)
        have hq4 := hq4.off hO (Ne.symm ne_hq1_hq4)
        have hF := hF.fresh hO (fun a ha z => absurd (z ▸ ha) (Nat.not_lt.mpr gq1))
        obtain ⟨v534, ev534, h⟩ := lti_step h
        refine lv_iinc (v := v534) (lv' := [(6, .int v534), (22, .double v528), (20, .double o520), (1, .ref x1), (4, .int x4), (9, .int v6), (12, .int o371.2.1), (17, .int v14), (18, .int o371.2.2.1), (19, .ref q1), (25, .ref q3), (26, .ref q4)]) hx hb dJ13___kernel_rem_pio2_785 hl (k := 4) rfl (by rw [ev534]; rfl) (by decide) rfl (fun ls hl => ?_)
        obtain ⟨v535, ev535, h⟩ := lti_step h
        refine lv_iinc (v := v535) (lv' := [(17, .int v535), (6, .int v534), (22, .double v528), (20, .double o520), (1, .ref x1), (4, .int x4), (9, .int v6), (12, .int o371.2.1), (18, .int o371.2.2.1), (19, .ref q1), (25, .ref q3), (26, .ref q4)]) hx hb dJ13___kernel_rem_pio2_788 hl (k := 7) rfl (by rw [ev535]; rfl) (by decide) rfl (fun ls hl => ?_)
        refine lv_aload hx hb dJ13___kernel_rem_pio2_791 (lv_at hl 9 rfl) ?_
        refine lv_iload hx hb dJ13___kernel_rem_pio2_793 (lv_at hl 1 rfl) ?_
        refine lv_dload hx hb dJ13___kernel_rem_pio2_795 (lv_at hl 2 rfl) ?_
        obtain ⟨v536, ev536, h⟩ := lti_step h
        refine r_d2i hx hb ev536 dJ13___kernel_rem_pio2_797 ?_
        obtain ⟨i537, xi537, h⟩ := gd_step (by decide) h
        obtain ⟨f538, ef538, h⟩ := lt_step h
        refine r_iast hx hb hS hq1 hB_hq1 i537 xi537 dJ13___kernel_rem_pio2_798 (fun H locs hS hO hq1 => ?_)
        have hq1 : aI D q1 20 f538 H := by rw [ef538]; exact hq1
        have h_x0 := h_x0.off hO ne_h_x0_hq1
        have h_x1 := h_x1.off hO ne_h_x1_hq1
        have hq2 := hq2.off hO (Ne.symm ne_hq1_hq2)
        have hq3 := hq3.off hO (Ne.symm ne_hq1_hq3)
        have hq4 := hq4.off hO (Ne.symm ne_hq1_hq4)
        have hF := hF.fresh hO (fun a ha z => absurd (z ▸ ha) (Nat.not_lt.mpr gq1))
        refine lv_goto (tgt := 810) hx hb dJ13___kernel_rem_pio2_799 (by decide) ?_
        exact HK376 v534 v535 f538 h H locs hS hF h_x0 h_x1 hq1 hq2 hq3 hq4 ls (lv_sub hl [4, 5, 1, 6, 7, 0, 8, 9, 10, 11] rfl)
    · have h := it_pos h c518
      obtain ⟨v539, ev539, h⟩ := lti_step h
      refine lv_iinc (v := v539) (lv' := [(6, .int v539), (1, .ref x1), (4, .int x4), (9, .int v6), (12, .int o371.2.1), (17, .int v14), (18, .int o371.2.2.1), (19, .ref q1), (20, .double o371.2.2.2.1), (25, .ref q3), (26, .ref q4)]) hx hb dJ13___kernel_rem_pio2_718 hl (k := 2) rfl (by rw [ev539]; rfl) (by decide) rfl (fun ls hl => ?_)
      obtain ⟨v540, ev540, h⟩ := lti_step h
      refine lv_iinc (v := v540) (lv' := [(17, .int v540), (6, .int v539), (1, .ref x1), (4, .int x4), (9, .int v6), (12, .int o371.2.1), (18, .int o371.2.2.1), (19, .ref q1), (20, .double o371.2.2.2.1), (25, .ref q3), (26, .ref q4)]) hx hb dJ13___kernel_rem_pio2_721 hl (k := 5) rfl (by rw [ev540]; rfl) (by decide) rfl (fun ls hl => ?_)
      obtain ⟨o562, eo562, h⟩ := bind_step h
      refine b_J13___kernel_rem_pio2_724 hC hS0 ne_x0_x1 ne_h_x0_hq1 ne_h_x1_hq1 ne_h_x0_hq2 ne_h_x1_hq2 ne_hq1_hq2 ne_h_x0_hq3 ne_h_x1_hq3 ne_hq1_hq3 ne_hq2_hq3 ne_h_x0_hq4 ne_h_x1_hq4 ne_hq1_hq4 ne_hq2_hq4 ne_hq3_hq4 gq1 gq2 gq3 gq4 hB_h_x1 hB_hq1 hB_hq2 hB_hq3 hB_hq4 64 v539 v540 o562 eo562 H locs hS hF h_x0 h_x1 hq1 hq2 hq3 hq4 ls (lv_sub hl [2, 3, 1, 4, 5, 0, 6, 7, 9, 10] rfl) (fun H locs hS hF h_x0 h_x1 hq1 hq2 hq3 hq4 ls hl => ?_)
      exact HK376 o562.1 o562.2 o371.2.2.2.2.1 h H locs hS hF h_x0 h_x1 hq1 hq2 hq3 hq4 ls (lv_sub hl [0, 1, 2, 3, 4, 5, 6, 7, 8, 9] rfl)
  clear eK11
  refine lv_if_ge (tgt := 57) hx hb dJ13___kernel_rem_pio2_51 (by decide) (fun c563 => ?_) (fun c563 => ?_)
  · have h := it_pos h c563
    exact HK11 v9 h H locs hS hF h_x0 h_x1 hq1 hq2 hq3 hq4 ls (lv_sub hl [8, 9, 10, 12, 13, 1, 0, 2, 3, 7, 6, 5, 4] rfl)
  · have h := it_neg h c563
    refine lv_iconst (v := 0) hx hb dJ13___kernel_rem_pio2_54 (by decide) ?_
    refine lv_istore (lv' := [(8, .int 0), (7, .int v7), (9, .int v6), (10, .int v6), (26, .ref q4), (25, .ref q3), (24, .ref q2), (19, .ref q1), (0, .ref x0), (1, .ref x1), (2, .int x2), (3, .int x3), (4, .int x4), (5, .ref (dN D 4))]) hx hb dJ13___kernel_rem_pio2_55 hl (by decide) rfl (fun ls hl => ?_)
    exact HK11 0 h H locs hS hF h_x0 h_x1 hq1 hq2 hq3 hq4 ls (lv_sub hl [8, 9, 10, 12, 13, 1, 0, 2, 3, 7, 6, 5, 4] rfl)

abbrev R_J11___ieee754_rem_pio2 : Room := { frames := 6, cells := 5, slots := 83, locals := 1324 }
noncomputable def f_J11___ieee754_rem_pio2_504 (g19 : Int32) (g20 : Int32) (g21 : Nat → UInt64) : Nat → UInt64 → Int32 → (Nat → UInt64) → Option (UInt64 × (Nat → UInt64))
  | 0, _, _, _ => none
  | n + 1, v15, v16, f17 =>
    (if 2 ≤ v16 then
      some (v15, f17)
    else
      lti (d2iF v15) fun v23 =>
      ltd (i2dF v23) fun v24 =>
      gd 3 v16 fun i25 =>
      lt (va_up f17 i25 v24) fun f26 =>
      gd 3 v16 fun i27 =>
      ltd (f26 i27) fun v28 =>
      ck (dsubF v15 v28) fun v29 =>
      ck (dmulF v29 4715268809856909312) fun v30 =>
      lti (v16 + 1) fun v31 =>
      f_J11___ieee754_rem_pio2_504 g19 g20 g21 n v30 v31 f26
    )
set_option maxHeartbeats 4000000 in
set_option maxRecDepth 100000 in
theorem b_J11___ieee754_rem_pio2_504 {p : Program} {l : Launch} {e : Env} {s : State} {m : MethodId} {below : List Frame} {meth : Method} {c : Code} {D : DD} {A : Array Value} {Q : State → Prop} (hC : Cx p s m A meth c yJ11___ieee754_rem_pio2 cJ11___ieee754_rem_pio2 21 (some .int)) (hS0 : St D s s.heap []) {x2 : Nat} {g18 : Nat} {g19 : Int32} {g20 : Int32} {g21 : Nat → UInt64} (ne_h_x2_hq1 : x2 ≠ g18) (gq1 : s.heap.size ≤ g18) (hB_h_x2 : dB D ≤ x2) (hB_hq1 : dB D ≤ g18) : ∀ (n : Nat) (v15 : UInt64) (v16 : Int32) (f17 : Nat → UInt64) (out : UInt64 × (Nat → UInt64)) (h : f_J11___ieee754_rem_pio2_504 g19 g20 g21 n v15 v16 f17 = some out) (H : Heap) (locs : List Loc) (hS : St D s H locs) (hF : Off (fun a => a = x2) s.heap H) (h_x2 : aD D x2 2 g21 H) (hq1 : aD D g18 3 f17 H) (ls : Array Slot) (hl : lv_has ls 21 [(2, .ref x2), (3, .double v15), (13, .ref g18), (14, .int g19), (15, .int v16), (20, .int g20)]) (K : ∀ (H : Heap) (locs : List Loc) (hS : St D s H locs) (hF : Off (fun a => a = x2) s.heap H) (h_x2 : aD D x2 2 g21 H) (hq1 : aD D g18 3 out.2 H) (ls : Array Slot) (hl : lv_has ls 21 [(2, .ref x2), (3, .double out.1), (13, .ref g18), (14, .int g19), (20, .int g20)]), W p l e R_J11___ieee754_rem_pio2 s m A below meth c H locs 1 3 Q (F0 m 536 ls [])), W p l e R_J11___ieee754_rem_pio2 s m A below meth c H locs 1 3 Q (F0 m 504 ls []) := by
  have _h := hS0
  obtain ⟨hx, hb, hr, hlk, hml, hown, hts, hnm⟩ := id hC
  intro n
  induction n with
  | zero => intro v15 v16 f17 out h; unfold f_J11___ieee754_rem_pio2_504 at h; cases h
  | succ n ih =>
    intro v15 v16 f17 out h H locs hS hF h_x2 hq1 ls hl K
    unfold f_J11___ieee754_rem_pio2_504 at h
    refine lv_iload hx hb dJ11___ieee754_rem_pio2_504 (lv_at hl 4 rfl) ?_
    refine lv_iconst (v := 2) hx hb dJ11___ieee754_rem_pio2_506 (by decide) ?_
    refine lv_icmp_ge (tgt := 536) hx hb dJ11___ieee754_rem_pio2_507 (by decide) (fun c22 => ?_) (fun c22 => ?_)
    · have h := it_pos h c22
      obtain rfl := Option.some.inj h
      exact K H locs hS hF h_x2 hq1 ls (lv_sub hl [0, 1, 2, 3, 5] rfl)
    · have h := it_neg h c22
      refine lv_aload hx hb dJ11___ieee754_rem_pio2_510 (lv_at hl 2 rfl) ?_
      refine lv_iload hx hb dJ11___ieee754_rem_pio2_512 (lv_at hl 4 rfl) ?_
      refine lv_dload_n hx hb dJ11___ieee754_rem_pio2_514 rfl (lv_at hl 1 rfl) ?_
      obtain ⟨v23, ev23, h⟩ := lti_step h
      refine r_d2i hx hb ev23 dJ11___ieee754_rem_pio2_515 ?_
      obtain ⟨v24, ev24, h⟩ := ltd_step h
      refine r_i2d hx hb ev24 dJ11___ieee754_rem_pio2_516 ?_
      obtain ⟨i25, xi25, h⟩ := gd_step (by decide) h
      obtain ⟨f26, ef26, h⟩ := lt_step h
      refine r_dast hx hb hS hq1 hB_hq1 i25 xi25 dJ11___ieee754_rem_pio2_517 (fun H locs hS hO hq1 => ?_)
      have hq1 : aD D g18 3 f26 H := by rw [ef26]; exact hq1
      have h_x2 := h_x2.off hO ne_h_x2_hq1
      have hF := hF.fresh hO (fun a ha z => absurd (z ▸ ha) (Nat.not_lt.mpr gq1))
      refine lv_dload_n hx hb dJ11___ieee754_rem_pio2_518 rfl (lv_at hl 1 rfl) ?_
      refine lv_aload hx hb dJ11___ieee754_rem_pio2_519 (lv_at hl 2 rfl) ?_
      refine lv_iload hx hb dJ11___ieee754_rem_pio2_521 (lv_at hl 4 rfl) ?_
      obtain ⟨i27, xi27, h⟩ := gd_step (by decide) h
      refine r_dald hx hb hS hq1 i27 xi27 dJ11___ieee754_rem_pio2_523 ?_
      obtain ⟨v28, ev28, h⟩ := ltd_step h
      refine r_nmD ev28 ?_
      obtain ⟨v29, ev29, nv29, h⟩ := ck_step h
      refine r_dsub hx hb ev29 nv29 dJ11___ieee754_rem_pio2_524 ?_
      refine lv_ldc2d hx hb (v := 4715268809856909312) hown (hts _ q239) dJ11___ieee754_rem_pio2_525 ?_
      obtain ⟨v30, ev30, nv30, h⟩ := ck_step h
      refine r_dmul hx hb ev30 nv30 dJ11___ieee754_rem_pio2_528 ?_
      refine lv_dstore_n (lv' := [(3, .double v30), (2, .ref x2), (13, .ref g18), (14, .int g19), (15, .int v16), (20, .int g20)]) hx hb dJ11___ieee754_rem_pio2_529 rfl hl (by decide) rfl (fun ls hl => ?_)
      obtain ⟨v31, ev31, h⟩ := lti_step h
      refine lv_iinc (v := v31) (lv' := [(15, .int v31), (3, .double v30), (2, .ref x2), (13, .ref g18), (14, .int g19), (20, .int g20)]) hx hb dJ11___ieee754_rem_pio2_530 hl (k := 4) rfl (by rw [ev31]; rfl) (by decide) rfl (fun ls hl => ?_)
      refine lv_goto (tgt := 504) hx hb dJ11___ieee754_rem_pio2_533 (by decide) ?_
      exact ih v30 v31 f26 out h H locs hS hF h_x2 hq1 ls (lv_sub hl [2, 1, 3, 4, 0, 5] rfl) K
noncomputable def f_J11___ieee754_rem_pio2_544 (g36 : Int32) (g37 : Int32) (g38 : Nat → UInt64) (g39 : Nat → UInt64) : Nat → Int32 → Option (Int32)
  | 0, _ => none
  | n + 1, v34 =>
    lti (v34 - 1) fun v40 =>
    gd 3 v40 fun i41 =>
    ltd (g39 i41) fun v42 =>
    lti (dcmpF v42 0 .l) fun v43 =>
    (if v43 = 0 then
      lti (v34 + (-1)) fun v45 =>
      f_J11___ieee754_rem_pio2_544 g36 g37 g38 g39 n v45
    else
      some (v34)
    )
set_option maxHeartbeats 4000000 in
set_option maxRecDepth 100000 in
theorem b_J11___ieee754_rem_pio2_544 {p : Program} {l : Launch} {e : Env} {s : State} {m : MethodId} {below : List Frame} {meth : Method} {c : Code} {D : DD} {A : Array Value} {Q : State → Prop} (hC : Cx p s m A meth c yJ11___ieee754_rem_pio2 cJ11___ieee754_rem_pio2 21 (some .int)) (hS0 : St D s s.heap []) {x2 : Nat} {g35 : Nat} {g36 : Int32} {g37 : Int32} {g38 : Nat → UInt64} {g39 : Nat → UInt64} (ne_h_x2_hq1 : x2 ≠ g35) (gq1 : s.heap.size ≤ g35) (hB_h_x2 : dB D ≤ x2) (hB_hq1 : dB D ≤ g35) : ∀ (n : Nat) (v34 : Int32) (out : Int32) (h : f_J11___ieee754_rem_pio2_544 g36 g37 g38 g39 n v34 = some out) (H : Heap) (locs : List Loc) (hS : St D s H locs) (hF : Off (fun a => a = x2) s.heap H) (h_x2 : aD D x2 2 g38 H) (hq1 : aD D g35 3 g39 H) (ls : Array Slot) (hl : lv_has ls 21 [(2, .ref x2), (13, .ref g35), (14, .int g36), (17, .int v34), (20, .int g37)]) (K : ∀ (H : Heap) (locs : List Loc) (hS : St D s H locs) (hF : Off (fun a => a = x2) s.heap H) (h_x2 : aD D x2 2 g38 H) (hq1 : aD D g35 3 g39 H) (ls : Array Slot) (hl : lv_has ls 21 [(2, .ref x2), (13, .ref g35), (14, .int g36), (17, .int out), (20, .int g37)]), W p l e R_J11___ieee754_rem_pio2 s m A below meth c H locs 1 3 Q (F0 m 562 ls [])), W p l e R_J11___ieee754_rem_pio2 s m A below meth c H locs 1 3 Q (F0 m 544 ls []) := by
  have _h := hS0
  obtain ⟨hx, hb, hr, hlk, hml, hown, hts, hnm⟩ := id hC
  intro n
  induction n with
  | zero => intro v34 out h; unfold f_J11___ieee754_rem_pio2_544 at h; cases h
  | succ n ih =>
    intro v34 out h H locs hS hF h_x2 hq1 ls hl K
    unfold f_J11___ieee754_rem_pio2_544 at h
    refine lv_aload hx hb dJ11___ieee754_rem_pio2_544 (lv_at hl 1 rfl) ?_
    refine lv_iload hx hb dJ11___ieee754_rem_pio2_546 (lv_at hl 3 rfl) ?_
    refine lv_iconst (v := 1) hx hb dJ11___ieee754_rem_pio2_548 (by decide) ?_
    obtain ⟨v40, ev40, h⟩ := lti_step h
    refine r_isub hx hb ev40 dJ11___ieee754_rem_pio2_549 ?_
    obtain ⟨i41, xi41, h⟩ := gd_step (by decide) h
    refine r_dald hx hb hS hq1 i41 xi41 dJ11___ieee754_rem_pio2_550 ?_
    obtain ⟨v42, ev42, h⟩ := ltd_step h
    refine r_nmD ev42 ?_
    refine lv_dconst0 hx hb dJ11___ieee754_rem_pio2_551 ?_
    obtain ⟨v43, ev43, h⟩ := lti_step h
    refine r_dcmp hx hb ev43 dJ11___ieee754_rem_pio2_552 ?_
    refine lv_if_ne (tgt := 562) hx hb dJ11___ieee754_rem_pio2_553 (by decide) (fun c44 => ?_) (fun c44 => ?_)
    · have h := it_neg h c44
      obtain rfl := Option.some.inj h
      exact K H locs hS hF h_x2 hq1 ls (lv_sub hl [0, 1, 2, 3, 4] rfl)
    · have h := it_pos h c44
      obtain ⟨v45, ev45, h⟩ := lti_step h
      refine lv_iinc (v := v45) (lv' := [(17, .int v45), (2, .ref x2), (13, .ref g35), (14, .int g36), (20, .int g37)]) hx hb dJ11___ieee754_rem_pio2_556 hl (k := 3) rfl (by rw [ev45]; rfl) (by decide) rfl (fun ls hl => ?_)
      refine lv_goto (tgt := 544) hx hb dJ11___ieee754_rem_pio2_559 (by decide) ?_
      exact ih v45 out h H locs hS hF h_x2 hq1 ls (lv_sub hl [1, 2, 3, 0, 4] rfl) K
noncomputable def f_J11___ieee754_rem_pio2 (x0 : UInt64) (y2 : Nat → UInt64) : Option (Int32 × (Nat → UInt64)) :=
  Option.bind (f_J8___HI x0) fun o2 =>
  lti (o2 &&& 2147483647) fun v3 =>
  (if 1072243195 < v3 then
    (if 1073928572 ≤ v3 then
      (if 1094263291 < v3 then
        (if v3 < 2146435072 then
          Option.bind (f_J8___LO x0) fun o8 =>
          Option.bind (f_J8___LO_2 0 o8) fun o9 =>
          lti (v3 >>> (20 &&& 31)) fun v10 =>
          lti (v10 - 1046) fun v11 =>
          lti (v11 <<< (20 &&& 31)) fun v12 =>
          lti (v3 - v12) fun v13 =>
          Option.bind (f_J8___HI_2 o9 v13) fun o14 =>
          Option.bind (f_J11___ieee754_rem_pio2_504 v11 o2 y2 64 o14 0 (fun _ => 0)) fun o32 =>
          lt (va_up o32.2 2 o32.1) fun f33 =>
          Option.bind (f_J11___ieee754_rem_pio2_544 v11 o2 y2 f33 64 3) fun o46 =>
          Option.bind (f_J13___kernel_rem_pio2 f33 y2 v11 o46 2) fun o47 =>
          (if 0 ≤ o2 then
            some (o47.1, o47.2)
          else
            ltd (o47.2 0) fun v49 =>
            ltd (FP.dneg v49) fun v50 =>
            lt (va_up o47.2 0 v50) fun f51 =>
            ltd (f51 1) fun v52 =>
            ltd (FP.dneg v52) fun v53 =>
            lt (va_up f51 1 v53) fun f54 =>
            lti (-o47.1) fun v55 =>
            some (v55, f54)
          )
        else
          none
        )
      else
        ck (x0 &&& 9223372036854775807) fun v56 =>
        ck (dmulF v56 4603909380684499075) fun v57 =>
        ck (daddF v57 4602678819172646912) fun v58 =>
        lti (d2iF v58) fun v59 =>
        ltd (i2dF v59) fun v60 =>
        ck (dmulF v60 4609753056924401664) fun v61 =>
        ck (dsubF v56 v61) fun v62 =>
        ck (dmulF v60 4454258360616903473) fun v63 =>
        lt (fun (v64 : UInt64) (v65 : UInt64) (f66 : Nat → UInt64) =>
        ltd (f66 0) fun v68 =>
        ck (dsubF v65 v68) fun v69 =>
        ck (dsubF v69 v64) fun v70 =>
        lt (va_up f66 1 v70) fun f71 =>
        (if 0 ≤ o2 then
          some (v59, f71)
        else
          ltd (f71 0) fun v73 =>
          ltd (FP.dneg v73) fun v74 =>
          lt (va_up f71 0 v74) fun f75 =>
          ltd (f75 1) fun v76 =>
          ltd (FP.dneg v76) fun v77 =>
          lt (va_up f75 1 v77) fun f78 =>
          lti (-v59) fun v79 =>
          some (v79, f78)
        )
        ) fun K67 =>
        lt (fun (_u : Unit) =>
        lti (v3 >>> (20 &&& 31)) fun v81 =>
        ck (dsubF v62 v63) fun v82 =>
        lt (va_up y2 0 v82) fun f83 =>
        ltd (f83 0) fun v84 =>
        Option.bind (f_J8___HI v84) fun o85 =>
        lti (o85 >>> (20 &&& 31)) fun v86 =>
        lti (v86 &&& 2047) fun v87 =>
        lti (v81 - v87) fun v88 =>
        (if v88 ≤ 16 then
          K67 v63 v62 f83
        else
          ck (dmulF v60 4454258360616747008) fun v90 =>
          ck (dsubF v62 v90) fun v91 =>
          ck (dmulF v60 4297306550709743731) fun v92 =>
          ck (dsubF v62 v91) fun v93 =>
          ck (dsubF v93 v90) fun v94 =>
          ck (dsubF v92 v94) fun v95 =>
          ck (dsubF v91 v95) fun v96 =>
          lt (va_up f83 0 v96) fun f97 =>
          ltd (f97 0) fun v98 =>
          Option.bind (f_J8___HI v98) fun o99 =>
          lti (o99 >>> (20 &&& 31)) fun v100 =>
          lti (v100 &&& 2047) fun v101 =>
          lti (v81 - v101) fun v102 =>
          (if v102 ≤ 49 then
            K67 v95 v91 f97
          else
            ck (dmulF v60 4297306550709518336) fun v104 =>
            ck (dsubF v91 v104) fun v105 =>
            ck (dmulF v60 4142048980368378305) fun v106 =>
            ck (dsubF v91 v105) fun v107 =>
            ck (dsubF v107 v104) fun v108 =>
            ck (dsubF v106 v108) fun v109 =>
            ck (dsubF v105 v109) fun v110 =>
            lt (va_up f97 0 v110) fun f111 =>
            K67 v109 v105 f111
          )
        )
        ) fun K80 =>
        (if 32 ≤ v59 then
          K80 ()
        else
          lti (v59 - 1) fun v113 =>
          gd 32 v113 fun i114 =>
          lti (tb_npio2 i114) fun v115 =>
          (if v3 = v115 then
            K80 ()
          else
            ck (dsubF v62 v63) fun v117 =>
            lt (va_up y2 0 v117) fun f118 =>
            K67 v63 v62 f118
          )
        )
      )
    else
      (if o2 ≤ 0 then
        ck (daddF x0 4609753056924401664) fun v120 =>
        (if v3 = 1073291771 then
          ck (daddF v120 4454258360616747008) fun v122 =>
          ck (daddF v122 4297306550709743731) fun v123 =>
          lt (va_up y2 0 v123) fun f124 =>
          ltd (f124 0) fun v125 =>
          ck (dsubF v122 v125) fun v126 =>
          ck (daddF v126 4297306550709743731) fun v127 =>
          lt (va_up f124 1 v127) fun f128 =>
          some ((-1), f128)
        else
          ck (daddF v120 4454258360616903473) fun v129 =>
          lt (va_up y2 0 v129) fun f130 =>
          ltd (f130 0) fun v131 =>
          ck (dsubF v120 v131) fun v132 =>
          ck (daddF v132 4454258360616903473) fun v133 =>
          lt (va_up f130 1 v133) fun f134 =>
          some ((-1), f134)
        )
      else
        ck (dsubF x0 4609753056924401664) fun v135 =>
        (if v3 = 1073291771 then
          ck (dsubF v135 4454258360616747008) fun v137 =>
          ck (dsubF v137 4297306550709743731) fun v138 =>
          lt (va_up y2 0 v138) fun f139 =>
          ltd (f139 0) fun v140 =>
          ck (dsubF v137 v140) fun v141 =>
          ck (dsubF v141 4297306550709743731) fun v142 =>
          lt (va_up f139 1 v142) fun f143 =>
          some (1, f143)
        else
          ck (dsubF v135 4454258360616903473) fun v144 =>
          lt (va_up y2 0 v144) fun f145 =>
          ltd (f145 0) fun v146 =>
          ck (dsubF v135 v146) fun v147 =>
          ck (dsubF v147 4454258360616903473) fun v148 =>
          lt (va_up f145 1 v148) fun f149 =>
          some (1, f149)
        )
      )
    )
  else
    lt (va_up y2 0 x0) fun f150 =>
    lt (va_up f150 1 0) fun f151 =>
    some (0, f151)
  )
theorem hd_J11___ieee754_rem_pio2 : Hd yJ11___ieee754_rem_pio2 2 := by unfold Hd; decide +kernel
set_option maxHeartbeats 4000000 in
set_option maxRecDepth 100000 in
theorem m_J11___ieee754_rem_pio2 {l : Launch} {D : DD} (x0 : UInt64) (x2 : Nat) (y2 : Nat → UInt64) (r : Int32 × (Nat → UInt64)) (h : f_J11___ieee754_rem_pio2 x0 y2 = some r) : MT l D yJ11___ieee754_rem_pio2 cJ11___ieee754_rem_pio2 21 (some .int) 6 1324 5 83 [.double x0, .ref x2] (fun H => aD D x2 2 y2 H ∧ dB D ≤ x2) (pI (fun H b H' => b = r.1 ∧ aD D x2 2 r.2 H' ∧ Off (fun a => a = x2) H H')) := by
  refine MT.start (by decide +kernel) (Nat.le_of_ble_eq_true rfl) ?_
  intro p e s m below meth c ls hC hS hp hl
  obtain ⟨h_x2, hB_h_x2⟩ := hp
  obtain ⟨hx, hb, hr, hlk, hml, hown, hts, hnm⟩ := id hC
  have hl : lv_has ls 21 [(0, .double x0), (2, .ref x2)] := hl
  unfold f_J11___ieee754_rem_pio2 at h
  have hS0 := hS
  obtain ⟨A, eA⟩ : ∃ A : Array Value, A = [.double x0, .ref x2].toArray := ⟨_, rfl⟩
  rw [← eA] at hC hts ⊢
  obtain ⟨Q, eQ⟩ : ∃ Q : State → Prop, Q = MQ below (TQ D (pI (fun H b H' => b = r.1 ∧ aD D x2 2 r.2 H' ∧ Off (fun a => a = x2) H H'))) A s 5 83 (fun q => dB D ≤ q) := ⟨_, rfl⟩
  have hF : Off (fun a => a = x2) s.heap s.heap := Off.rf
  show W p l e R_J11___ieee754_rem_pio2 s m A below meth c s.heap [] 0 0 _ _
  rw [← eQ]
  obtain ⟨H, eH⟩ : ∃ H : Heap, H = s.heap := ⟨_, rfl⟩
  obtain ⟨locs, eLc⟩ : ∃ L : List Loc, L = [] := ⟨_, rfl⟩
  rw [← eH, ← eLc]
  have hF : Off (fun a => a = x2) s.heap H := by rw [eH]; exact hF
  rw [← eH] at h_x2
  have hS : St D s H locs := by rw [eH, eLc]; exact hS
  refine lv_dconst0 hx hb dJ11___ieee754_rem_pio2_0 ?_
  refine lv_dstore_n (lv' := [(3, .double 0), (0, .double x0), (2, .ref x2)]) hx hb dJ11___ieee754_rem_pio2_1 rfl hl (by decide) rfl (fun ls hl => ?_)
  refine lv_iconst (v := 3) hx hb dJ11___ieee754_rem_pio2_2 (by decide) ?_
  refine r_newa hx hb hts hS (ty := .double) rfl q451 3 rfl (by decide) (by decide) (Nat.le_of_ble_eq_true rfl) (Nat.le_of_ble_eq_true rfl) dJ11___ieee754_rem_pio2_3 (fun q1 H eq_q1 hS hE hq1 z_q1 hB_hq1 => ?_)
  have gq1 : s.heap.size ≤ q1 := by have := hF.1; omega
  have ne_h_x2_hq1 : x2 ≠ q1 := by have := h_x2.lt; omega
  have h_x2 := h_x2.ext hE
  have hF := hF.trans (hE.mono (fun _ _ z => z.elim))
  have hq1 : aD D q1 3 (fun _ => 0) H := hq1
  refine lv_astore (lv' := [(13, .ref q1), (3, .double 0), (0, .double x0), (2, .ref x2)]) hx hb dJ11___ieee754_rem_pio2_5 hl (by decide) rfl (fun ls hl => ?_)
  refine lv_dload_n hx hb dJ11___ieee754_rem_pio2_7 rfl (lv_at hl 2 rfl) ?_
  obtain ⟨o2, eo2, h⟩ := bind_step h
  refine r_cp (r_runSN (rest := []) (As := [.double x0]) hC 1 (m_J8___HI x0  o2 eo2) q202 q180 q49 q181 hd_J8___HI rfl ⟨Nat.le_of_ble_eq_true rfl, Nat.le_of_ble_eq_true rfl⟩ hS trivial hl.1 rfl (Nat.le_of_ble_eq_true rfl) dJ11___ieee754_rem_pio2_8 ⟨Nat.le_of_ble_eq_true rfl, Nat.le_of_ble_eq_true rfl⟩) ?_
  refine lv_istore (lv' := [(20, .int o2), (13, .ref q1), (3, .double 0), (0, .double x0), (2, .ref x2)]) hx hb dJ11___ieee754_rem_pio2_11 hl (by decide) rfl (fun ls hl => ?_)
  refine lv_iload hx hb dJ11___ieee754_rem_pio2_13 (lv_at hl 0 rfl) ?_
  refine lv_ldc hx hb (v := 2147483647) hown (hts _ q203) dJ11___ieee754_rem_pio2_15 ?_
  obtain ⟨v3, ev3, h⟩ := lti_step h
  refine r_iand hx hb ev3 dJ11___ieee754_rem_pio2_17 ?_
  refine lv_istore (lv' := [(19, .int v3), (20, .int o2), (13, .ref q1), (3, .double 0), (0, .double x0), (2, .ref x2)]) hx hb dJ11___ieee754_rem_pio2_18 hl (by decide) rfl (fun ls hl => ?_)
  refine lv_iload hx hb dJ11___ieee754_rem_pio2_20 (lv_at hl 0 rfl) ?_
  refine lv_ldc hx hb (v := 1072243195) hown (hts _ q204) dJ11___ieee754_rem_pio2_22 ?_
  refine lv_icmp_gt (tgt := 37) hx hb dJ11___ieee754_rem_pio2_24 (by decide) (fun c4 => ?_) (fun c4 => ?_)
  · have h := it_pos h c4
    refine lv_iload hx hb dJ11___ieee754_rem_pio2_37 (lv_at hl 0 rfl) ?_
    refine lv_ldc hx hb (v := 1073928572) hown (hts _ q205) dJ11___ieee754_rem_pio2_39 ?_
    refine lv_icmp_ge (tgt := 177) hx hb dJ11___ieee754_rem_pio2_41 (by decide) (fun c5 => ?_) (fun c5 => ?_)
    · have h := it_pos h c5
      refine lv_iload hx hb dJ11___ieee754_rem_pio2_177 (lv_at hl 0 rfl) ?_
      refine lv_ldc hx hb (v := 1094263291) hown (hts _ q211) dJ11___ieee754_rem_pio2_179 ?_
      refine lv_icmp_gt (tgt := 449) hx hb dJ11___ieee754_rem_pio2_181 (by decide) (fun c6 => ?_) (fun c6 => ?_)
      · have h := it_pos h c6
        refine lv_iload hx hb dJ11___ieee754_rem_pio2_449 (lv_at hl 0 rfl) ?_
        refine lv_ldc hx hb (v := 2146435072) hown (hts _ q226) dJ11___ieee754_rem_pio2_451 ?_
        refine lv_icmp_lt (tgt := 468) hx hb dJ11___ieee754_rem_pio2_453 (by decide) (fun c7 => ?_) (fun c7 => ?_)
        · have h := it_pos h c7
          refine lv_dload_n hx hb dJ11___ieee754_rem_pio2_468 rfl (lv_at hl 3 rfl) ?_
          refine lv_dload_n hx hb dJ11___ieee754_rem_pio2_469 rfl (lv_at hl 4 rfl) ?_
          obtain ⟨o8, eo8, h⟩ := bind_step h
          refine r_cp (r_runSN (rest := [.double 0]) (As := [.double x0]) hC 1 (m_J8___LO x0  o8 eo8) q227 q228 q49 q229 hd_J8___LO rfl ⟨Nat.le_of_ble_eq_true rfl, Nat.le_of_ble_eq_true rfl⟩ hS trivial hl.1 rfl (Nat.le_of_ble_eq_true rfl) dJ11___ieee754_rem_pio2_470 ⟨Nat.le_of_ble_eq_true rfl, Nat.le_of_ble_eq_true rfl⟩) ?_
          obtain ⟨o9, eo9, h⟩ := bind_step h
          refine r_cp (r_runSN (rest := []) (As := [.double 0, .int o8]) hC 2 (m_J8___LO_2 0 o8  o9 eo9) q230 q231 q49 q232 hd_J8___LO_2 rfl ⟨Nat.le_of_ble_eq_true rfl, Nat.le_of_ble_eq_true rfl⟩ hS trivial hl.1 rfl (Nat.le_of_ble_eq_true rfl) dJ11___ieee754_rem_pio2_473 ⟨Nat.le_of_ble_eq_true rfl, Nat.le_of_ble_eq_true rfl⟩) ?_
          refine lv_dstore_n (lv' := [(3, .double o9), (19, .int v3), (20, .int o2), (13, .ref q1), (0, .double x0), (2, .ref x2)]) hx hb dJ11___ieee754_rem_pio2_476 rfl hl (by decide) rfl (fun ls hl => ?_)
          refine lv_iload hx hb dJ11___ieee754_rem_pio2_477 (lv_at hl 1 rfl) ?_
          refine lv_bipush (v := 20) hx hb dJ11___ieee754_rem_pio2_479 (by decide) ?_
          obtain ⟨v10, ev10, h⟩ := lti_step h
          refine r_ishr hx hb ev10 dJ11___ieee754_rem_pio2_481 ?_
          refine lv_sipush (v := 1046) hx hb dJ11___ieee754_rem_pio2_482 (by decide) ?_
          obtain ⟨v11, ev11, h⟩ := lti_step h
          refine r_isub hx hb ev11 dJ11___ieee754_rem_pio2_485 ?_
          refine lv_istore (lv' := [(14, .int v11), (3, .double o9), (19, .int v3), (20, .int o2), (13, .ref q1), (0, .double x0), (2, .ref x2)]) hx hb dJ11___ieee754_rem_pio2_486 hl (by decide) rfl (fun ls hl => ?_)
          refine lv_dload_n hx hb dJ11___ieee754_rem_pio2_488 rfl (lv_at hl 1 rfl) ?_
          refine lv_iload hx hb dJ11___ieee754_rem_pio2_489 (lv_at hl 2 rfl) ?_
          refine lv_iload hx hb dJ11___ieee754_rem_pio2_491 (lv_at hl 0 rfl) ?_
          refine lv_bipush (v := 20) hx hb dJ11___ieee754_rem_pio2_493 (by decide) ?_
          obtain ⟨v12, ev12, h⟩ := lti_step h
          refine r_ishl hx hb ev12 dJ11___ieee754_rem_pio2_495 ?_
          obtain ⟨v13, ev13, h⟩ := lti_step h
          refine r_isub hx hb ev13 dJ11___ieee754_rem_pio2_496 ?_
          obtain ⟨o14, eo14, h⟩ := bind_step h
          refine r_cp (r_runSN (rest := []) (As := [.double o9, .int v13]) hC 2 (m_J8___HI_2 o9 v13  o14 eo14) q236 q237 q49 q238 hd_J8___HI_2 rfl ⟨Nat.le_of_ble_eq_true rfl, Nat.le_of_ble_eq_true rfl⟩ hS trivial hl.1 rfl (Nat.le_of_ble_eq_true rfl) dJ11___ieee754_rem_pio2_497 ⟨Nat.le_of_ble_eq_true rfl, Nat.le_of_ble_eq_true rfl⟩) ?_
          refine lv_dstore_n (lv' := [(3, .double o14), (14, .int v11), (19, .int v3), (20, .int o2), (13, .ref q1), (0, .double x0), (2, .ref x2)]) hx hb dJ11___ieee754_rem_pio2_500 rfl hl (by decide) rfl (fun ls hl => ?_)
          refine lv_iconst (v := 0) hx hb dJ11___ieee754_rem_pio2_501 (by decide) ?_
          refine lv_istore (lv' := [(15, .int 0), (3, .double o14), (14, .int v11), (19, .int v3), (20, .int o2), (13, .ref q1), (0, .double x0), (2, .ref x2)]) hx hb dJ11___ieee754_rem_pio2_502 hl (by decide) rfl (fun ls hl => ?_)
          obtain ⟨o32, eo32, h⟩ := bind_step h
          refine b_J11___ieee754_rem_pio2_504 hC hS0 ne_h_x2_hq1 gq1 hB_h_x2 hB_hq1 64 o14 0 (fun _ => 0) o32 eo32 H locs hS hF h_x2 hq1 ls (lv_sub hl [7, 1, 5, 2, 0, 4] rfl) (fun H locs hS hF h_x2 hq1 ls hl => ?_)
          refine lv_aload hx hb dJ11___ieee754_rem_pio2_536 (lv_at hl 2 rfl) ?_
          refine lv_iconst (v := 2) hx hb dJ11___ieee754_rem_pio2_538 (by decide) ?_
          refine lv_dload_n hx hb dJ11___ieee754_rem_pio2_539 rfl (lv_at hl 1 rfl) ?_
          obtain ⟨f33, ef33, h⟩ := lt_step h
          refine r_dast hx hb hS hq1 hB_hq1 2 ⟨rfl, by decide, by decide⟩ dJ11___ieee754_rem_pio2_540 (fun H locs hS hO hq1 => ?_)
          have hq1 : aD D q1 3 f33 H := by rw [ef33]; exact hq1
          have h_x2 := h_x2.off hO ne_h_x2_hq1
          have hF := hF.fresh hO (fun a ha z => absurd (z ▸ ha) (Nat.not_lt.mpr gq1))
          refine lv_iconst (v := 3) hx hb dJ11___ieee754_rem_pio2_541 (by decide) ?_
          refine lv_istore (lv' := [(17, .int 3), (2, .ref x2), (3, .double o32.1), (13, .ref q1), (14, .int v11), (20, .int o2)]) hx hb dJ11___ieee754_rem_pio2_542 hl (by decide) rfl (fun ls hl => ?_)
          obtain ⟨o46, eo46, h⟩ := bind_step h
          refine b_J11___ieee754_rem_pio2_544 hC hS0 ne_h_x2_hq1 gq1 hB_h_x2 hB_hq1 64 3 o46 eo46 H locs hS hF h_x2 hq1 ls (lv_sub hl [1, 3, 4, 0, 5] rfl) (fun H locs hS hF h_x2 hq1 ls hl => ?_)
          refine lv_aload hx hb dJ11___ieee754_rem_pio2_562 (lv_at hl 1 rfl) ?_
          refine lv_aload_n hx hb dJ11___ieee754_rem_pio2_564 rfl (lv_at hl 0 rfl) ?_
          refine lv_iload hx hb dJ11___ieee754_rem_pio2_565 (lv_at hl 2 rfl) ?_
          refine lv_iload hx hb dJ11___ieee754_rem_pio2_567 (lv_at hl 3 rfl) ?_
          refine lv_iconst (v := 2) hx hb dJ11___ieee754_rem_pio2_569 (by decide) ?_
          refine r_gets hx hb hts hown hS 4 rfl q240 dJ11___ieee754_rem_pio2_570 ?_
          obtain ⟨o47, eo47, h⟩ := bind_step h
          refine r_ci (r_runS (rest := []) (As := [.ref q1, .ref x2, .int v11, .int o46, .int 2, .ref (dN D 4)]) hC 6 (m_J13___kernel_rem_pio2 q1 x2 v11 o46 2 f33 y2 o47 eo47) q242 q243 q54 q244 hd_J13___kernel_rem_pio2 rfl ⟨Nat.le_of_ble_eq_true rfl, Nat.le_of_ble_eq_true rfl⟩ hS ⟨hq1, h_x2, hB_h_x2, (Ne.symm ne_h_x2_hq1)⟩ hl.1 rfl (Nat.le_of_ble_eq_true rfl) dJ11___ieee754_rem_pio2_573 ⟨Nat.le_of_ble_eq_true rfl, Nat.le_of_ble_eq_true rfl⟩) hS (fun b H locs hp hS hz => ?_)
          obtain ⟨rfl, h_x2, hO⟩ := hp
          have hq1 := hq1.off hO (Ne.symm ne_h_x2_hq1)
          have hF := hF.trans (hO.mono (fun _ _ z => z))
          refine lv_istore (lv' := [(18, .int o47.1), (2, .ref x2), (13, .ref q1), (14, .int v11), (17, .int o46), (20, .int o2)]) hx hb dJ11___ieee754_rem_pio2_576 hl (by decide) rfl (fun ls hl => ?_)
          refine lv_iload hx hb dJ11___ieee754_rem_pio2_578 (lv_at hl 5 rfl) ?_
          refine lv_if_ge (tgt := 601) hx hb dJ11___ieee754_rem_pio2_580 (by decide) (fun c48 => ?_) (fun c48 => ?_)
          · have h := it_pos h c48
            refine lv_iload hx hb dJ11___ieee754_rem_pio2_601 (lv_at hl 0 rfl) ?_
            obtain rfl := Option.some.inj h
            rw [eQ]
            exact r_iret hx hb hr hlk hS (Nat.le_of_ble_eq_true rfl) (Nat.le_of_ble_eq_true rfl) dJ11___ieee754_rem_pio2_603 ⟨_, rfl, rfl, h_x2, hF⟩
          · have h := it_neg h c48
            refine lv_aload_n hx hb dJ11___ieee754_rem_pio2_583 rfl (lv_at hl 1 rfl) ?_
            refine lv_iconst (v := 0) hx hb dJ11___ieee754_rem_pio2_584 (by decide) ?_
            refine lv_aload_n hx hb dJ11___ieee754_rem_pio2_585 rfl (lv_at hl 1 rfl) ?_
            refine lv_iconst (v := 0) hx hb dJ11___ieee754_rem_pio2_586 (by decide) ?_
            refine r_dald hx hb hS h_x2 0 ⟨rfl, by decide, by decide⟩ dJ11___ieee754_rem_pio2_587 ?_
            obtain ⟨v49, ev49, h⟩ := ltd_step h
            refine r_nmD ev49 ?_
            obtain ⟨v50, ev50, h⟩ := ltd_step h
            refine r_dneg hx hb ev50 dJ11___ieee754_rem_pio2_588 ?_
            obtain ⟨f51, ef51, h⟩ := lt_step h
            refine r_dast hx hb hS h_x2 hB_h_x2 0 ⟨rfl, by decide, by decide⟩ dJ11___ieee754_rem_pio2_589 (fun H locs hS hO h_x2 => ?_)
            have h_x2 : aD D x2 2 f51 H := by rw [ef51]; exact h_x2
            have hq1 := hq1.off hO (Ne.symm ne_h_x2_hq1)
            have hF := hF.trans (hO.mono (fun _ _ z => z))
            refine lv_aload_n hx hb dJ11___ieee754_rem_pio2_590 rfl (lv_at hl 1 rfl) ?_
            refine lv_iconst (v := 1) hx hb dJ11___ieee754_rem_pio2_591 (by decide) ?_
            refine lv_aload_n hx hb dJ11___ieee754_rem_pio2_592 rfl (lv_at hl 1 rfl) ?_
            refine lv_iconst (v := 1) hx hb dJ11___ieee754_rem_pio2_593 (by decide) ?_
            refine r_dald hx hb hS h_x2 1 ⟨rfl, by decide, by decide⟩ dJ11___ieee754_rem_pio2_594 ?_
            obtain ⟨v52, ev52, h⟩ := ltd_step h
            refine r_nmD ev52 ?_
            obtain ⟨v53, ev53, h⟩ := ltd_step h
            refine r_dneg hx hb ev53 dJ11___ieee754_rem_pio2_595 ?_
            obtain ⟨f54, ef54, h⟩ := lt_step h
            refine r_dast hx hb hS h_x2 hB_h_x2 1 ⟨rfl, by decide, by decide⟩ dJ11___ieee754_rem_pio2_596 (fun H locs hS hO h_x2 => ?_)
            have h_x2 : aD D x2 2 f54 H := by rw [ef54]; exact h_x2
            have hq1 := hq1.off hO (Ne.symm ne_h_x2_hq1)
            have hF := hF.trans (hO.mono (fun _ _ z => z))
            refine lv_iload hx hb dJ11___ieee754_rem_pio2_597 (lv_at hl 0 rfl) ?_
            obtain ⟨v55, ev55, h⟩ := lti_step h
            refine r_ineg hx hb ev55 dJ11___ieee754_rem_pio2_599 ?_
            obtain rfl := Option.some.inj h
            rw [eQ]
            exact r_iret hx hb hr hlk hS (Nat.le_of_ble_eq_true rfl) (Nat.le_of_ble_eq_true rfl) dJ11___ieee754_rem_pio2_600 ⟨_, rfl, rfl, h_x2, hF⟩
        · have h := it_neg h c7
          cases h
      · have h := it_neg h c6
        refine lv_dload_n hx hb dJ11___ieee754_rem_pio2_184 rfl (lv_at hl 4 rfl) ?_
        obtain ⟨v56, ev56, nv56, h⟩ := ck_step h
        refine r_dabs hC ev56 nv56 q212 q213 q53 q214 hl.1 (Nat.le_of_ble_eq_true rfl) ⟨Nat.le_of_ble_eq_true rfl, Nat.le_of_ble_eq_true rfl⟩ dJ11___ieee754_rem_pio2_185 ?_
        refine lv_dstore (lv' := [(7, .double v56), (19, .int v3), (20, .int o2), (13, .ref q1), (3, .double 0), (0, .double x0), (2, .ref x2)]) hx hb dJ11___ieee754_rem_pio2_188 hl (by decide) rfl (fun ls hl => ?_)
        refine lv_dload hx hb dJ11___ieee754_rem_pio2_190 (lv_at hl 0 rfl) ?_
        refine lv_ldc2d hx hb (v := 4603909380684499075) hown (hts _ q220) dJ11___ieee754_rem_pio2_192 ?_
        obtain ⟨v57, ev57, nv57, h⟩ := ck_step h
        refine r_dmul hx hb ev57 nv57 dJ11___ieee754_rem_pio2_195 ?_
        refine lv_ldc2d hx hb (v := 4602678819172646912) hown (hts _ q221) dJ11___ieee754_rem_pio2_196 ?_
        obtain ⟨v58, ev58, nv58, h⟩ := ck_step h
        refine r_dadd hx hb ev58 nv58 dJ11___ieee754_rem_pio2_199 ?_
        obtain ⟨v59, ev59, h⟩ := lti_step h
        refine r_d2i hx hb ev59 dJ11___ieee754_rem_pio2_200 ?_
        refine lv_istore (lv' := [(18, .int v59), (7, .double v56), (19, .int v3), (20, .int o2), (13, .ref q1), (3, .double 0), (0, .double x0), (2, .ref x2)]) hx hb dJ11___ieee754_rem_pio2_201 hl (by decide) rfl (fun ls hl => ?_)
        refine lv_iload hx hb dJ11___ieee754_rem_pio2_203 (lv_at hl 0 rfl) ?_
        obtain ⟨v60, ev60, h⟩ := ltd_step h
        refine r_i2d hx hb ev60 dJ11___ieee754_rem_pio2_205 ?_
        refine lv_dstore (lv' := [(11, .double v60), (18, .int v59), (7, .double v56), (19, .int v3), (20, .int o2), (13, .ref q1), (3, .double 0), (0, .double x0), (2, .ref x2)]) hx hb dJ11___ieee754_rem_pio2_206 hl (by decide) rfl (fun ls hl => ?_)
        refine lv_dload hx hb dJ11___ieee754_rem_pio2_208 (lv_at hl 2 rfl) ?_
        refine lv_dload hx hb dJ11___ieee754_rem_pio2_210 (lv_at hl 0 rfl) ?_
        refine lv_ldc2d hx hb (v := 4609753056924401664) hown (hts _ q206) dJ11___ieee754_rem_pio2_212 ?_
        obtain ⟨v61, ev61, nv61, h⟩ := ck_step h
        refine r_dmul hx hb ev61 nv61 dJ11___ieee754_rem_pio2_215 ?_
        obtain ⟨v62, ev62, nv62, h⟩ := ck_step h
        refine r_dsub hx hb ev62 nv62 dJ11___ieee754_rem_pio2_216 ?_
        refine lv_dstore (lv' := [(9, .double v62), (11, .double v60), (18, .int v59), (7, .double v56), (19, .int v3), (20, .int o2), (13, .ref q1), (3, .double 0), (0, .double x0), (2, .ref x2)]) hx hb dJ11___ieee754_rem_pio2_217 hl (by decide) rfl (fun ls hl => ?_)
        refine lv_dload hx hb dJ11___ieee754_rem_pio2_219 (lv_at hl 1 rfl) ?_
        refine lv_ldc2d hx hb (v := 4454258360616903473) hown (hts _ q208) dJ11___ieee754_rem_pio2_221 ?_
        obtain ⟨v63, ev63, nv63, h⟩ := ck_step h
        refine r_dmul hx hb ev63 nv63 dJ11___ieee754_rem_pio2_224 ?_
        refine lv_dstore (lv' := [(5, .double v63), (9, .double v62), (11, .double v60), (18, .int v59), (7, .double v56), (19, .int v3), (20, .int o2), (13, .ref q1), (3, .double 0), (0, .double x0), (2, .ref x2)]) hx hb dJ11___ieee754_rem_pio2_225 hl (by decide) rfl (fun ls hl => ?_)
        refine lv_iload hx hb dJ11___ieee754_rem_pio2_227 (lv_at hl 3 rfl) ?_
        refine lv_bipush (v := 32) hx hb dJ11___ieee754_rem_pio2_229 (by decide) ?_
        obtain ⟨K67, eK67, h⟩ := lt_step h
        have HK67 : ∀ (v64 : UInt64) (v65 : UInt64) (f66 : Nat → UInt64) (h : K67 v64 v65 f66 = some r) (H : Heap) (locs : List Loc) (hS : St D s H locs) (hF : Off (fun a => a = x2) s.heap H) (h_x2 : aD D x2 2 f66 H) (hq1 : aD D q1 3 (fun _ => 0) H) (ls : Array Slot) (hl : lv_has ls 21 [(2, .ref x2), (5, .double v64), (9, .double v65), (18, .int v59), (20, .int o2)]), W p l e R_J11___ieee754_rem_pio2 s m A below meth c H locs 1 3 Q (F0 m 411 ls []) := by
          intro v64 v65 f66 h H locs hS hF h_x2 hq1 ls hl
          subst eK67
          refine lv_aload_n hx hb dJ11___ieee754_rem_pio2_411 rfl (lv_at hl 0 rfl) ?_
          refine lv_iconst (v := 1) hx hb dJ11___ieee754_rem_pio2_412 (by decide) ?_
          refine lv_dload hx hb dJ11___ieee754_rem_pio2_413 (lv_at hl 2 rfl) ?_
          refine lv_aload_n hx hb dJ11___ieee754_rem_pio2_415 rfl (lv_at hl 0 rfl) ?_
          refine lv_iconst (v := 0) hx hb dJ11___ieee754_rem_pio2_416 (by decide) ?_
          refine r_dald hx hb hS h_x2 0 ⟨rfl, by decide, by decide⟩ dJ11___ieee754_rem_pio2_417 ?_
          obtain ⟨v68, ev68, h⟩ := ltd_step h
          refine r_nmD ev68 ?_
          obtain ⟨v69, ev69, nv69, h⟩ := ck_step h
          refine r_dsub hx hb ev69 nv69 dJ11___ieee754_rem_pio2_418 ?_
          refine lv_dload hx hb dJ11___ieee754_rem_pio2_419 (lv_at hl 1 rfl) ?_
          obtain ⟨v70, ev70, nv70, h⟩ := ck_step h
          refine r_dsub hx hb ev70 nv70 dJ11___ieee754_rem_pio2_421 ?_
          obtain ⟨f71, ef71, h⟩ := lt_step h
          refine r_dast hx hb hS h_x2 hB_h_x2 1 ⟨rfl, by decide, by decide⟩ dJ11___ieee754_rem_pio2_422 (fun H locs hS hO h_x2 => ?_)
          have h_x2 : aD D x2 2 f71 H := by rw [ef71]; exact h_x2
          have hq1 := hq1.off hO (Ne.symm ne_h_x2_hq1)
          have hF := hF.trans (hO.mono (fun _ _ z => z))
          refine lv_iload hx hb dJ11___ieee754_rem_pio2_423 (lv_at hl 4 rfl) ?_
          refine lv_if_ge (tgt := 446) hx hb dJ11___ieee754_rem_pio2_425 (by decide) (fun c72 => ?_) (fun c72 => ?_)
          · have h := it_pos h c72
            refine lv_iload hx hb dJ11___ieee754_rem_pio2_446 (lv_at hl 3 rfl) ?_
            obtain rfl := Option.some.inj h
            rw [eQ]
            exact r_iret hx hb hr hlk hS (Nat.le_of_ble_eq_true rfl) (Nat.le_of_ble_eq_true rfl) dJ11___ieee754_rem_pio2_448 ⟨_, rfl, rfl, h_x2, hF⟩
          · have h := it_neg h c72
            refine lv_aload_n hx hb dJ11___ieee754_rem_pio2_428 rfl (lv_at hl 0 rfl) ?_
            refine lv_iconst (v := 0) hx hb dJ11___ieee754_rem_pio2_429 (by decide) ?_
            refine lv_aload_n hx hb dJ11___ieee754_rem_pio2_430 rfl (lv_at hl 0 rfl) ?_
            refine lv_iconst (v := 0) hx hb dJ11___ieee754_rem_pio2_431 (by decide) ?_
            refine r_dald hx hb hS h_x2 0 ⟨rfl, by decide, by decide⟩ dJ11___ieee754_rem_pio2_432 ?_
            obtain ⟨v73, ev73, h⟩ := ltd_step h
            refine r_nmD ev73 ?_
            obtain ⟨v74, ev74, h⟩ := ltd_step h
            refine r_dneg hx hb ev74 dJ11___ieee754_rem_pio2_433 ?_
            obtain ⟨f75, ef75, h⟩ := lt_step h
            refine r_dast hx hb hS h_x2 hB_h_x2 0 ⟨rfl, by decide, by decide⟩ dJ11___ieee754_rem_pio2_434 (fun H locs hS hO h_x2 => ?_)
            have h_x2 : aD D x2 2 f75 H := by rw [ef75]; exact h_x2
            have hq1 := hq1.off hO (Ne.symm ne_h_x2_hq1)
            have hF := hF.trans (hO.mono (fun _ _ z => z))
            refine lv_aload_n hx hb dJ11___ieee754_rem_pio2_435 rfl (lv_at hl 0 rfl) ?_
            refine lv_iconst (v := 1) hx hb dJ11___ieee754_rem_pio2_436 (by decide) ?_
            refine lv_aload_n hx hb dJ11___ieee754_rem_pio2_437 rfl (lv_at hl 0 rfl) ?_
            refine lv_iconst (v := 1) hx hb dJ11___ieee754_rem_pio2_438 (by decide) ?_
            refine r_dald hx hb hS h_x2 1 ⟨rfl, by decide, by decide⟩ dJ11___ieee754_rem_pio2_439 ?_
            obtain ⟨v76, ev76, h⟩ := ltd_step h
            refine r_nmD ev76 ?_
            obtain ⟨v77, ev77, h⟩ := ltd_step h
            refine r_dneg hx hb ev77 dJ11___ieee754_rem_pio2_440 ?_
            obtain ⟨f78, ef78, h⟩ := lt_step h
            refine r_dast hx hb hS h_x2 hB_h_x2 1 ⟨rfl, by decide, by decide⟩ dJ11___ieee754_rem_pio2_441 (fun H locs hS hO h_x2 => ?_)
            have h_x2 : aD D x2 2 f78 H := by rw [ef78]; exact h_x2
            have hq1 := hq1.off hO (Ne.symm ne_h_x2_hq1)
            have hF := hF.trans (hO.mono (fun _ _ z => z))
            refine lv_iload hx hb dJ11___ieee754_rem_pio2_442 (lv_at hl 3 rfl) ?_
            obtain ⟨v79, ev79, h⟩ := lti_step h
            refine r_ineg hx hb ev79 dJ11___ieee754_rem_pio2_444 ?_
            obtain rfl := Option.some.inj h
            rw [eQ]
            exact r_iret hx hb hr hlk hS (Nat.le_of_ble_eq_true rfl) (Nat.le_of_ble_eq_true rfl) dJ11___ieee754_rem_pio2_445 ⟨_, rfl, rfl, h_x2, hF⟩
        clear eK67
        obtain ⟨K80, eK80, h⟩ := lt_step h
        have HK80 : ∀  (h : K80 () = some r) (H : Heap) (locs : List Loc) (hS : St D s H locs) (hF : Off (fun a => a = x2) s.heap H) (h_x2 : aD D x2 2 y2 H) (hq1 : aD D q1 3 (fun _ => 0) H) (ls : Array Slot) (hl : lv_has ls 21 [(2, .ref x2), (5, .double v63), (9, .double v62), (11, .double v60), (18, .int v59), (19, .int v3), (20, .int o2)]), W p l e R_J11___ieee754_rem_pio2 s m A below meth c H locs 1 3 Q (F0 m 258 ls []) := by
          intro h H locs hS hF h_x2 hq1 ls hl
          subst eK80
          refine lv_iload hx hb dJ11___ieee754_rem_pio2_258 (lv_at hl 5 rfl) ?_
          refine lv_bipush (v := 20) hx hb dJ11___ieee754_rem_pio2_260 (by decide) ?_
          obtain ⟨v81, ev81, h⟩ := lti_step h
          refine r_ishr hx hb ev81 dJ11___ieee754_rem_pio2_262 ?_
          refine lv_istore (lv' := [(16, .int v81), (2, .ref x2), (5, .double v63), (9, .double v62), (11, .double v60), (18, .int v59), (19, .int v3), (20, .int o2)]) hx hb dJ11___ieee754_rem_pio2_263 hl (by decide) rfl (fun ls hl => ?_)
          refine lv_aload_n hx hb dJ11___ieee754_rem_pio2_265 rfl (lv_at hl 1 rfl) ?_
          refine lv_iconst (v := 0) hx hb dJ11___ieee754_rem_pio2_266 (by decide) ?_
          refine lv_dload hx hb dJ11___ieee754_rem_pio2_267 (lv_at hl 3 rfl) ?_
          refine lv_dload hx hb dJ11___ieee754_rem_pio2_269 (lv_at hl 2 rfl) ?_
          obtain ⟨v82, ev82, nv82, h⟩ := ck_step h
          refine r_dsub hx hb ev82 nv82 dJ11___ieee754_rem_pio2_271 ?_
          obtain ⟨f83, ef83, h⟩ := lt_step h
          refine r_dast hx hb hS h_x2 hB_h_x2 0 ⟨rfl, by decide, by decide⟩ dJ11___ieee754_rem_pio2_272 (fun H locs hS hO h_x2 => ?_)
          have h_x2 : aD D x2 2 f83 H := by rw [ef83]; exact h_x2
          have hq1 := hq1.off hO (Ne.symm ne_h_x2_hq1)
          have hF := hF.trans (hO.mono (fun _ _ z => z))
          refine lv_iload hx hb dJ11___ieee754_rem_pio2_273 (lv_at hl 0 rfl) ?_
          refine lv_aload_n hx hb dJ11___ieee754_rem_pio2_275 rfl (lv_at hl 1 rfl) ?_
          refine lv_iconst (v := 0) hx hb dJ11___ieee754_rem_pio2_276 (by decide) ?_
          refine r_dald hx hb hS h_x2 0 ⟨rfl, by decide, by decide⟩ dJ11___ieee754_rem_pio2_277 ?_
          obtain ⟨v84, ev84, h⟩ := ltd_step h
          refine r_nmD ev84 ?_
          obtain ⟨o85, eo85, h⟩ := bind_step h
          refine r_cp (r_runSN (rest := [.int v81]) (As := [.double v84]) hC 1 (m_J8___HI v84  o85 eo85) q202 q180 q49 q181 hd_J8___HI rfl ⟨Nat.le_of_ble_eq_true rfl, Nat.le_of_ble_eq_true rfl⟩ hS trivial hl.1 rfl (Nat.le_of_ble_eq_true rfl) dJ11___ieee754_rem_pio2_278 ⟨Nat.le_of_ble_eq_true rfl, Nat.le_of_ble_eq_true rfl⟩) ?_
          refine lv_bipush (v := 20) hx hb dJ11___ieee754_rem_pio2_281 (by decide) ?_
          obtain ⟨v86, ev86, h⟩ := lti_step h
          refine r_ishr hx hb ev86 dJ11___ieee754_rem_pio2_283 ?_
          refine lv_sipush (v := 2047) hx hb dJ11___ieee754_rem_pio2_284 (by decide) ?_
          obtain ⟨v87, ev87, h⟩ := lti_step h
          refine r_iand hx hb ev87 dJ11___ieee754_rem_pio2_287 ?_
          obtain ⟨v88, ev88, h⟩ := lti_step h
          refine r_isub hx hb ev88 dJ11___ieee754_rem_pio2_288 ?_
          refine lv_istore (lv' := [(15, .int v88), (16, .int v81), (2, .ref x2), (5, .double v63), (9, .double v62), (11, .double v60), (18, .int v59), (19, .int v3), (20, .int o2)]) hx hb dJ11___ieee754_rem_pio2_289 hl (by decide) rfl (fun ls hl => ?_)
          refine lv_iload hx hb dJ11___ieee754_rem_pio2_291 (lv_at hl 0 rfl) ?_
          refine lv_bipush (v := 16) hx hb dJ11___ieee754_rem_pio2_293 (by decide) ?_
          refine lv_icmp_le (tgt := 411) hx hb dJ11___ieee754_rem_pio2_295 (by decide) (fun c89 => ?_) (fun c89 => ?_)
          · have h := it_pos h c89
            exact HK67 v63 v62 f83 h H locs hS hF h_x2 hq1 ls (lv_sub hl [2, 3, 4, 6, 8] rfl)
          · have h := it_neg h c89
            refine lv_dload hx hb dJ11___ieee754_rem_pio2_298 (lv_at hl 4 rfl) ?_
            refine lv_dstore (lv' := [(7, .double v62), (15, .int v88), (16, .int v81), (2, .ref x2), (5, .double v63), (9, .double v62), (11, .double v60), (18, .int v59), (19, .int v3), (20, .int o2)]) hx hb dJ11___ieee754_rem_pio2_300 hl (by decide) rfl (fun ls hl => ?_)
            refine lv_dload hx hb dJ11___ieee754_rem_pio2_302 (lv_at hl 6 rfl) ?_
            refine lv_ldc2d hx hb (v := 4454258360616747008) hown (hts _ q209) dJ11___ieee754_rem_pio2_304 ?_
            obtain ⟨v90, ev90, nv90, h⟩ := ck_step h
            refine r_dmul hx hb ev90 nv90 dJ11___ieee754_rem_pio2_307 ?_
            refine lv_dstore (lv' := [(5, .double v90), (7, .double v62), (15, .int v88), (16, .int v81), (2, .ref x2), (9, .double v62), (11, .double v60), (18, .int v59), (19, .int v3), (20, .int o2)]) hx hb dJ11___ieee754_rem_pio2_308 hl (by decide) rfl (fun ls hl => ?_)
            refine lv_dload hx hb dJ11___ieee754_rem_pio2_310 (lv_at hl 1 rfl) ?_
            refine lv_dload hx hb dJ11___ieee754_rem_pio2_312 (lv_at hl 0 rfl) ?_
            obtain ⟨v91, ev91, nv91, h⟩ := ck_step h
            refine r_dsub hx hb ev91 nv91 dJ11___ieee754_rem_pio2_314 ?_
            refine lv_dstore (lv' := [(9, .double v91), (5, .double v90), (7, .double v62), (15, .int v88), (16, .int v81), (2, .ref x2), (11, .double v60), (18, .int v59), (19, .int v3), (20, .int o2)]) hx hb dJ11___ieee754_rem_pio2_315 hl (by decide) rfl (fun ls hl => ?_)
            refine lv_dload hx hb dJ11___ieee754_rem_pio2_317 (lv_at hl 6 rfl) ?_
            refine lv_ldc2d hx hb (v := 4297306550709743731) hown (hts _ q210) dJ11___ieee754_rem_pio2_319 ?_
            obtain ⟨v92, ev92, nv92, h⟩ := ck_step h
            refine r_dmul hx hb ev92 nv92 dJ11___ieee754_rem_pio2_322 ?_
            refine lv_dload hx hb dJ11___ieee754_rem_pio2_323 (lv_at hl 2 rfl) ?_
            refine lv_dload hx hb dJ11___ieee754_rem_pio2_325 (lv_at hl 0 rfl) ?_
            obtain ⟨v93, ev93, nv93, h⟩ := ck_step h
            refine r_dsub hx hb ev93 nv93 dJ11___ieee754_rem_pio2_327 ?_
            refine lv_dload hx hb dJ11___ieee754_rem_pio2_328 (lv_at hl 1 rfl) ?_
            obtain ⟨v94, ev94, nv94, h⟩ := ck_step h
            refine r_dsub hx hb ev94 nv94 dJ11___ieee754_rem_pio2_330 ?_
            obtain ⟨v95, ev95, nv95, h⟩ := ck_step h
            refine r_dsub hx hb ev95 nv95 dJ11___ieee754_rem_pio2_331 ?_
            refine lv_dstore (lv' := [(5, .double v95), (9, .double v91), (7, .double v62), (15, .int v88), (16, .int v81), (2, .ref x2), (11, .double v60), (18, .int v59), (19, .int v3), (20, .int o2)]) hx hb dJ11___ieee754_rem_pio2_332 hl (by decide) rfl (fun ls hl => ?_)
            refine lv_aload_n hx hb dJ11___ieee754_rem_pio2_334 rfl (lv_at hl 5 rfl) ?_
            refine lv_iconst (v := 0) hx hb dJ11___ieee754_rem_pio2_335 (by decide) ?_
            refine lv_dload hx hb dJ11___ieee754_rem_pio2_336 (lv_at hl 1 rfl) ?_
            refine lv_dload hx hb dJ11___ieee754_rem_pio2_338 (lv_at hl 0 rfl) ?_
            obtain ⟨v96, ev96, nv96, h⟩ := ck_step h
            refine r_dsub hx hb ev96 nv96 dJ11___ieee754_rem_pio2_340 ?_
            obtain ⟨f97, ef97, h⟩ := lt_step h
            refine r_dast hx hb hS h_x2 hB_h_x2 0 ⟨rfl, by decide, by decide⟩ dJ11___ieee754_rem_pio2_341 (fun H locs hS hO h_x2 => ?_)
            have h_x2 : aD D x2 2 f97 H := by rw [ef97]; exact h_x2
            have hq1 := hq1.off hO (Ne.symm ne_h_x2_hq1)
            have hF := hF.trans (hO.mono (fun _ _ z => z))
            refine lv_iload hx hb dJ11___ieee754_rem_pio2_342 (lv_at hl 4 rfl) ?_
            refine lv_aload_n hx hb dJ11___ieee754_rem_pio2_344 rfl (lv_at hl 5 rfl) ?_
            refine lv_iconst (v := 0) hx hb dJ11___ieee754_rem_pio2_345 (by decide) ?_
            refine r_dald hx hb hS h_x2 0 ⟨rfl, by decide, by decide⟩ dJ11___ieee754_rem_pio2_346 ?_
            obtain ⟨v98, ev98, h⟩ := ltd_step h
            refine r_nmD ev98 ?_
            obtain ⟨o99, eo99, h⟩ := bind_step h
            refine r_cp (r_runSN (rest := [.int v81]) (As := [.double v98]) hC 1 (m_J8___HI v98  o99 eo99) q202 q180 q49 q181 hd_J8___HI rfl ⟨Nat.le_of_ble_eq_true rfl, Nat.le_of_ble_eq_true rfl⟩ hS trivial hl.1 rfl (Nat.le_of_ble_eq_true rfl) dJ11___ieee754_rem_pio2_347 ⟨Nat.le_of_ble_eq_true rfl, Nat.le_of_ble_eq_true rfl⟩) ?_
            refine lv_bipush (v := 20) hx hb dJ11___ieee754_rem_pio2_350 (by decide) ?_
            obtain ⟨v100, ev100, h⟩ := lti_step h
            refine r_ishr hx hb ev100 dJ11___ieee754_rem_pio2_352 ?_
            refine lv_sipush (v := 2047) hx hb dJ11___ieee754_rem_pio2_353 (by decide) ?_
            obtain ⟨v101, ev101, h⟩ := lti_step h
            refine r_iand hx hb ev101 dJ11___ieee754_rem_pio2_356 ?_
            obtain ⟨v102, ev102, h⟩ := lti_step h
            refine r_isub hx hb ev102 dJ11___ieee754_rem_pio2_357 ?_
            refine lv_istore (lv' := [(15, .int v102), (5, .double v95), (9, .double v91), (7, .double v62), (16, .int v81), (2, .ref x2), (11, .double v60), (18, .int v59), (19, .int v3), (20, .int o2)]) hx hb dJ11___ieee754_rem_pio2_358 hl (by decide) rfl (fun ls hl => ?_)
            refine lv_iload hx hb dJ11___ieee754_rem_pio2_360 (lv_at hl 0 rfl) ?_
            refine lv_bipush (v := 49) hx hb dJ11___ieee754_rem_pio2_362 (by decide) ?_
            refine lv_icmp_le (tgt := 411) hx hb dJ11___ieee754_rem_pio2_364 (by decide) (fun c103 => ?_) (fun c103 => ?_)
            · have h := it_pos h c103
              exact HK67 v95 v91 f97 h H locs hS hF h_x2 hq1 ls (lv_sub hl [5, 1, 2, 7, 9] rfl)
            · have h := it_neg h c103
              refine lv_dload hx hb dJ11___ieee754_rem_pio2_367 (lv_at hl 2 rfl) ?_
              refine lv_dstore (lv' := [(7, .double v91), (15, .int v102), (5, .double v95), (9, .double v91), (16, .int v81), (2, .ref x2), (11, .double v60), (18, .int v59), (19, .int v3), (20, .int o2)]) hx hb dJ11___ieee754_rem_pio2_369 hl (by decide) rfl (fun ls hl => ?_)
              refine lv_dload hx hb dJ11___ieee754_rem_pio2_371 (lv_at hl 6 rfl) ?_
              refine lv_ldc2d hx hb (v := 4297306550709518336) hown (hts _ q224) dJ11___ieee754_rem_pio2_373 ?_
              obtain ⟨v104, ev104, nv104, h⟩ := ck_step h
              refine r_dmul hx hb ev104 nv104 dJ11___ieee754_rem_pio2_376 ?_
              refine lv_dstore (lv' := [(5, .double v104), (7, .double v91), (15, .int v102), (9, .double v91), (16, .int v81), (2, .ref x2), (11, .double v60), (18, .int v59), (19, .int v3), (20, .int o2)]) hx hb dJ11___ieee754_rem_pio2_377 hl (by decide) rfl (fun ls hl => ?_)
              refine lv_dload hx hb dJ11___ieee754_rem_pio2_379 (lv_at hl 1 rfl) ?_
              refine lv_dload hx hb dJ11___ieee754_rem_pio2_381 (lv_at hl 0 rfl) ?_
              obtain ⟨v105, ev105, nv105, h⟩ := ck_step h
              refine r_dsub hx hb ev105 nv105 dJ11___ieee754_rem_pio2_383 ?_
              refine lv_dstore (lv' := [(9, .double v105), (5, .double v104), (7, .double v91), (15, .int v102), (16, .int v81), (2, .ref x2), (11, .double v60), (18, .int v59), (19, .int v3), (20, .int o2)]) hx hb dJ11___ieee754_rem_pio2_384 hl (by decide) rfl (fun ls hl => ?_)
              refine lv_dload hx hb dJ11___ieee754_rem_pio2_386 (lv_at hl 6 rfl) ?_
              refine lv_ldc2d hx hb (v := 4142048980368378305) hown (hts _ q225) dJ11___ieee754_rem_pio2_388 ?_
              obtain ⟨v106, ev106, nv106, h⟩ := ck_step h
              refine r_dmul hx hb ev106 nv106 dJ11___ieee754_rem_pio2_391 ?_
              refine lv_dload hx hb dJ11___ieee754_rem_pio2_392 (lv_at hl 2 rfl) ?_
              refine lv_dload hx hb dJ11___ieee754_rem_pio2_394 (lv_at hl 0 rfl) ?_
              obtain ⟨v107, ev107, nv107, h⟩ := ck_step h
              refine r_dsub hx hb ev107 nv107 dJ11___ieee754_rem_pio2_396 ?_
              refine lv_dload hx hb dJ11___ieee754_rem_pio2_397 (lv_at hl 1 rfl) ?_
              obtain ⟨v108, ev108, nv108, h⟩ := ck_step h
              refine r_dsub hx hb ev108 nv108 dJ11___ieee754_rem_pio2_399 ?_
              obtain ⟨v109, ev109, nv109, h⟩ := ck_step h
              refine r_dsub hx hb ev109 nv109 dJ11___ieee754_rem_pio2_400 ?_
              refine lv_dstore (lv' := [(5, .double v109), (9, .double v105), (7, .double v91), (15, .int v102), (16, .int v81), (2, .ref x2), (11, .double v60), (18, .int v59), (19, .int v3), (20, .int o2)]) hx hb dJ11___ieee754_rem_pio2_401 hl (by decide) rfl (fun ls hl => ?_)
              refine lv_aload_n hx hb dJ11___ieee754_rem_pio2_403 rfl (lv_at hl 5 rfl) ?_
              refine lv_iconst (v := 0) hx hb dJ11___ieee754_rem_pio2_404 (by decide) ?_
              refine lv_dload hx hb dJ11___ieee754_rem_pio2_405 (lv_at hl 1 rfl) ?_
              refine lv_dload hx hb dJ11___ieee754_rem_pio2_407 (lv_at hl 0 rfl) ?_
              obtain ⟨v110, ev110, nv110, h⟩ := ck_step h
              refine r_dsub hx hb ev110 nv110 dJ11___ieee754_rem_pio2_409 ?_
              obtain ⟨f111, ef111, h⟩ := lt_step h
              refine r_dast hx hb hS h_x2 hB_h_x2 0 ⟨rfl, by decide, by decide⟩ dJ11___ieee754_rem_pio2_410 (fun H locs hS hO h_x2 => ?_)
              have h_x2 : aD D x2 2 f111 H := by rw [ef111]; exact h_x2
              have hq1 := hq1.off hO (Ne.symm ne_h_x2_hq1)
              have hF := hF.trans (hO.mono (fun _ _ z => z))
              exact HK67 v109 v105 f111 h H locs hS hF h_x2 hq1 ls (lv_sub hl [5, 0, 1, 7, 9] rfl)
        clear eK80
        refine lv_icmp_ge (tgt := 258) hx hb dJ11___ieee754_rem_pio2_231 (by decide) (fun c112 => ?_) (fun c112 => ?_)
        · have h := it_pos h c112
          exact HK80  h H locs hS hF h_x2 hq1 ls (lv_sub hl [10, 0, 1, 2, 3, 5, 6] rfl)
        · have h := it_neg h c112
          refine lv_iload hx hb dJ11___ieee754_rem_pio2_234 (lv_at hl 5 rfl) ?_
          refine r_gets hx hb hts hown hS 3 rfl q222 dJ11___ieee754_rem_pio2_236 ?_
          refine lv_iload hx hb dJ11___ieee754_rem_pio2_239 (lv_at hl 3 rfl) ?_
          refine lv_iconst (v := 1) hx hb dJ11___ieee754_rem_pio2_241 (by decide) ?_
          obtain ⟨v113, ev113, h⟩ := lti_step h
          refine r_isub hx hb ev113 dJ11___ieee754_rem_pio2_242 ?_
          obtain ⟨i114, xi114, h⟩ := gd_step (by decide) h
          refine r_iald hx hb hS (hS.1.RA hS.1.1.2.2.2.1.2.2.2.1) i114 xi114 dJ11___ieee754_rem_pio2_243 ?_
          obtain ⟨v115, ev115, h⟩ := lti_step h
          refine r_nmI ev115 ?_
          refine lv_icmp_eq (tgt := 258) hx hb dJ11___ieee754_rem_pio2_244 (by decide) (fun c116 => ?_) (fun c116 => ?_)
          · have h := it_pos h c116
            exact HK80  h H locs hS hF h_x2 hq1 ls (lv_sub hl [10, 0, 1, 2, 3, 5, 6] rfl)
          · have h := it_neg h c116
            refine lv_aload_n hx hb dJ11___ieee754_rem_pio2_247 rfl (lv_at hl 10 rfl) ?_
            refine lv_iconst (v := 0) hx hb dJ11___ieee754_rem_pio2_248 (by decide) ?_
            refine lv_dload hx hb dJ11___ieee754_rem_pio2_249 (lv_at hl 1 rfl) ?_
            refine lv_dload hx hb dJ11___ieee754_rem_pio2_251 (lv_at hl 0 rfl) ?_
            obtain ⟨v117, ev117, nv117, h⟩ := ck_step h
            refine r_dsub hx hb ev117 nv117 dJ11___ieee754_rem_pio2_253 ?_
            obtain ⟨f118, ef118, h⟩ := lt_step h
            refine r_dast hx hb hS h_x2 hB_h_x2 0 ⟨rfl, by decide, by decide⟩ dJ11___ieee754_rem_pio2_254 (fun H locs hS hO h_x2 => ?_)
            have h_x2 : aD D x2 2 f118 H := by rw [ef118]; exact h_x2
            have hq1 := hq1.off hO (Ne.symm ne_h_x2_hq1)
            have hF := hF.trans (hO.mono (fun _ _ z => z))
            refine lv_goto (tgt := 411) hx hb dJ11___ieee754_rem_pio2_255 (by decide) ?_
            exact HK67 v63 v62 f118 h H locs hS hF h_x2 hq1 ls (lv_sub hl [10, 0, 1, 3, 6] rfl)
    · have h := it_neg h c5
      refine lv_iload hx hb dJ11___ieee754_rem_pio2_44 (lv_at hl 1 rfl) ?_
      refine lv_if_le (tgt := 113) hx hb dJ11___ieee754_rem_pio2_46 (by decide) (fun c119 => ?_) (fun c119 => ?_)
      · have h := it_pos h c119
        refine lv_dload_n hx hb dJ11___ieee754_rem_pio2_113 rfl (lv_at hl 4 rfl) ?_
        refine lv_ldc2d hx hb (v := 4609753056924401664) hown (hts _ q206) dJ11___ieee754_rem_pio2_114 ?_
        obtain ⟨v120, ev120, nv120, h⟩ := ck_step h
        refine r_dadd hx hb ev120 nv120 dJ11___ieee754_rem_pio2_117 ?_
        refine lv_dstore_n (lv' := [(3, .double v120), (19, .int v3), (20, .int o2), (13, .ref q1), (0, .double x0), (2, .ref x2)]) hx hb dJ11___ieee754_rem_pio2_118 rfl hl (by decide) rfl (fun ls hl => ?_)
        refine lv_iload hx hb dJ11___ieee754_rem_pio2_119 (lv_at hl 1 rfl) ?_
        refine lv_ldc hx hb (v := 1073291771) hown (hts _ q207) dJ11___ieee754_rem_pio2_121 ?_
        refine lv_icmp_eq (tgt := 149) hx hb dJ11___ieee754_rem_pio2_123 (by decide) (fun c121 => ?_) (fun c121 => ?_)
        · have h := it_pos h c121
          refine lv_dload_n hx hb dJ11___ieee754_rem_pio2_149 rfl (lv_at hl 0 rfl) ?_
          refine lv_ldc2d hx hb (v := 4454258360616747008) hown (hts _ q209) dJ11___ieee754_rem_pio2_150 ?_
          obtain ⟨v122, ev122, nv122, h⟩ := ck_step h
          refine r_dadd hx hb ev122 nv122 dJ11___ieee754_rem_pio2_153 ?_
          refine lv_dstore_n (lv' := [(3, .double v122), (19, .int v3), (20, .int o2), (13, .ref q1), (0, .double x0), (2, .ref x2)]) hx hb dJ11___ieee754_rem_pio2_154 rfl hl (by decide) rfl (fun ls hl => ?_)
          refine lv_aload_n hx hb dJ11___ieee754_rem_pio2_155 rfl (lv_at hl 5 rfl) ?_
          refine lv_iconst (v := 0) hx hb dJ11___ieee754_rem_pio2_156 (by decide) ?_
          refine lv_dload_n hx hb dJ11___ieee754_rem_pio2_157 rfl (lv_at hl 0 rfl) ?_
          refine lv_ldc2d hx hb (v := 4297306550709743731) hown (hts _ q210) dJ11___ieee754_rem_pio2_158 ?_
          obtain ⟨v123, ev123, nv123, h⟩ := ck_step h
          refine r_dadd hx hb ev123 nv123 dJ11___ieee754_rem_pio2_161 ?_
          obtain ⟨f124, ef124, h⟩ := lt_step h
          refine r_dast hx hb hS h_x2 hB_h_x2 0 ⟨rfl, by decide, by decide⟩ dJ11___ieee754_rem_pio2_162 (fun H locs hS hO h_x2 => ?_)
          have h_x2 : aD D x2 2 f124 H := by rw [ef124]; exact h_x2
          have hq1 := hq1.off hO (Ne.symm ne_h_x2_hq1)
          have hF := hF.trans (hO.mono (fun _ _ z => z))
          refine lv_aload_n hx hb dJ11___ieee754_rem_pio2_163 rfl (lv_at hl 5 rfl) ?_
          refine lv_iconst (v := 1) hx hb dJ11___ieee754_rem_pio2_164 (by decide) ?_
          refine lv_dload_n hx hb dJ11___ieee754_rem_pio2_165 rfl (lv_at hl 0 rfl) ?_
          refine lv_aload_n hx hb dJ11___ieee754_rem_pio2_166 rfl (lv_at hl 5 rfl) ?_
          refine lv_iconst (v := 0) hx hb dJ11___ieee754_rem_pio2_167 (by decide) ?_
          refine r_dald hx hb hS h_x2 0 ⟨rfl, by decide, by decide⟩ dJ11___ieee754_rem_pio2_168 ?_
          obtain ⟨v125, ev125, h⟩ := ltd_step h
          refine r_nmD ev125 ?_
          obtain ⟨v126, ev126, nv126, h⟩ := ck_step h
          refine r_dsub hx hb ev126 nv126 dJ11___ieee754_rem_pio2_169 ?_
          refine lv_ldc2d hx hb (v := 4297306550709743731) hown (hts _ q210) dJ11___ieee754_rem_pio2_170 ?_
          obtain ⟨v127, ev127, nv127, h⟩ := ck_step h
          refine r_dadd hx hb ev127 nv127 dJ11___ieee754_rem_pio2_173 ?_
          obtain ⟨f128, ef128, h⟩ := lt_step h
          refine r_dast hx hb hS h_x2 hB_h_x2 1 ⟨rfl, by decide, by decide⟩ dJ11___ieee754_rem_pio2_174 (fun H locs hS hO h_x2 => ?_)
          have h_x2 : aD D x2 2 f128 H := by rw [ef128]; exact h_x2
          have hq1 := hq1.off hO (Ne.symm ne_h_x2_hq1)
          have hF := hF.trans (hO.mono (fun _ _ z => z))
          refine lv_iconst (v := (-1)) hx hb dJ11___ieee754_rem_pio2_175 (by decide) ?_
          obtain rfl := Option.some.inj h
          rw [eQ]
          exact r_iret hx hb hr hlk hS (Nat.le_of_ble_eq_true rfl) (Nat.le_of_ble_eq_true rfl) dJ11___ieee754_rem_pio2_176 ⟨_, rfl, rfl, h_x2, hF⟩
        · have h := it_neg h c121
          refine lv_aload_n hx hb dJ11___ieee754_rem_pio2_126 rfl (lv_at hl 5 rfl) ?_
          refine lv_iconst (v := 0) hx hb dJ11___ieee754_rem_pio2_127 (by decide) ?_
          refine lv_dload_n hx hb dJ11___ieee754_rem_pio2_128 rfl (lv_at hl 0 rfl) ?_
          refine lv_ldc2d hx hb (v := 4454258360616903473) hown (hts _ q208) dJ11___ieee754_rem_pio2_129 ?_
          obtain ⟨v129, ev129, nv129, h⟩ := ck_step h
          refine r_dadd hx hb ev129 nv129 dJ11___ieee754_rem_pio2_132 ?_
          obtain ⟨f130, ef130, h⟩ := lt_step h
          refine r_dast hx hb hS h_x2 hB_h_x2 0 ⟨rfl, by decide, by decide⟩ dJ11___ieee754_rem_pio2_133 (fun H locs hS hO h_x2 => ?_)
          have h_x2 : aD D x2 2 f130 H := by rw [ef130]; exact h_x2
          have hq1 := hq1.off hO (Ne.symm ne_h_x2_hq1)
          have hF := hF.trans (hO.mono (fun _ _ z => z))
          refine lv_aload_n hx hb dJ11___ieee754_rem_pio2_134 rfl (lv_at hl 5 rfl) ?_
          refine lv_iconst (v := 1) hx hb dJ11___ieee754_rem_pio2_135 (by decide) ?_
          refine lv_dload_n hx hb dJ11___ieee754_rem_pio2_136 rfl (lv_at hl 0 rfl) ?_
          refine lv_aload_n hx hb dJ11___ieee754_rem_pio2_137 rfl (lv_at hl 5 rfl) ?_
          refine lv_iconst (v := 0) hx hb dJ11___ieee754_rem_pio2_138 (by decide) ?_
          refine r_dald hx hb hS h_x2 0 ⟨rfl, by decide, by decide⟩ dJ11___ieee754_rem_pio2_139 ?_
          obtain ⟨v131, ev131, h⟩ := ltd_step h
          refine r_nmD ev131 ?_
          obtain ⟨v132, ev132, nv132, h⟩ := ck_step h
          refine r_dsub hx hb ev132 nv132 dJ11___ieee754_rem_pio2_140 ?_
          refine lv_ldc2d hx hb (v := 4454258360616903473) hown (hts _ q208) dJ11___ieee754_rem_pio2_141 ?_
          obtain ⟨v133, ev133, nv133, h⟩ := ck_step h
          refine r_dadd hx hb ev133 nv133 dJ11___ieee754_rem_pio2_144 ?_
          obtain ⟨f134, ef134, h⟩ := lt_step h
          refine r_dast hx hb hS h_x2 hB_h_x2 1 ⟨rfl, by decide, by decide⟩ dJ11___ieee754_rem_pio2_145 (fun H locs hS hO h_x2 => ?_)
          have h_x2 : aD D x2 2 f134 H := by rw [ef134]; exact h_x2
          have hq1 := hq1.off hO (Ne.symm ne_h_x2_hq1)
          have hF := hF.trans (hO.mono (fun _ _ z => z))
          refine lv_goto (tgt := 175) hx hb dJ11___ieee754_rem_pio2_146 (by decide) ?_
          refine lv_iconst (v := (-1)) hx hb dJ11___ieee754_rem_pio2_175 (by decide) ?_
          obtain rfl := Option.some.inj h
          rw [eQ]
          exact r_iret hx hb hr hlk hS (Nat.le_of_ble_eq_true rfl) (Nat.le_of_ble_eq_true rfl) dJ11___ieee754_rem_pio2_176 ⟨_, rfl, rfl, h_x2, hF⟩
      · have h := it_neg h c119
        refine lv_dload_n hx hb dJ11___ieee754_rem_pio2_49 rfl (lv_at hl 4 rfl) ?_
        refine lv_ldc2d hx hb (v := 4609753056924401664) hown (hts _ q206) dJ11___ieee754_rem_pio2_50 ?_
        obtain ⟨v135, ev135, nv135, h⟩ := ck_step h
        refine r_dsub hx hb ev135 nv135 dJ11___ieee754_rem_pio2_53 ?_
        refine lv_dstore_n (lv' := [(3, .double v135), (19, .int v3), (20, .int o2), (13, .ref q1), (0, .double x0), (2, .ref x2)]) hx hb dJ11___ieee754_rem_pio2_54 rfl hl (by decide) rfl (fun ls hl => ?_)
        refine lv_iload hx hb dJ11___ieee754_rem_pio2_55 (lv_at hl 1 rfl) ?_
        refine lv_ldc hx hb (v := 1073291771) hown (hts _ q207) dJ11___ieee754_rem_pio2_57 ?_
        refine lv_icmp_eq (tgt := 85) hx hb dJ11___ieee754_rem_pio2_59 (by decide) (fun c136 => ?_) (fun c136 => ?_)
        · have h := it_pos h c136
          refine lv_dload_n hx hb dJ11___ieee754_rem_pio2_85 rfl (lv_at hl 0 rfl) ?_
          refine lv_ldc2d hx hb (v := 4454258360616747008) hown (hts _ q209) dJ11___ieee754_rem_pio2_86 ?_
          obtain ⟨v137, ev137, nv137, h⟩ := ck_step h
          refine r_dsub hx hb ev137 nv137 dJ11___ieee754_rem_pio2_89 ?_
          refine lv_dstore_n (lv' := [(3, .double v137), (19, .int v3), (20, .int o2), (13, .ref q1), (0, .double x0), (2, .ref x2)]) hx hb dJ11___ieee754_rem_pio2_90 rfl hl (by decide) rfl (fun ls hl => ?_)
          refine lv_aload_n hx hb dJ11___ieee754_rem_pio2_91 rfl (lv_at hl 5 rfl) ?_
          refine lv_iconst (v := 0) hx hb dJ11___ieee754_rem_pio2_92 (by decide) ?_
          refine lv_dload_n hx hb dJ11___ieee754_rem_pio2_93 rfl (lv_at hl 0 rfl) ?_
          refine lv_ldc2d hx hb (v := 4297306550709743731) hown (hts _ q210) dJ11___ieee754_rem_pio2_94 ?_
          obtain ⟨v138, ev138, nv138, h⟩ := ck_step h
          refine r_dsub hx hb ev138 nv138 dJ11___ieee754_rem_pio2_97 ?_
          obtain ⟨f139, ef139, h⟩ := lt_step h
          refine r_dast hx hb hS h_x2 hB_h_x2 0 ⟨rfl, by decide, by decide⟩ dJ11___ieee754_rem_pio2_98 (fun H locs hS hO h_x2 => ?_)
          have h_x2 : aD D x2 2 f139 H := by rw [ef139]; exact h_x2
          have hq1 := hq1.off hO (Ne.symm ne_h_x2_hq1)
          have hF := hF.trans (hO.mono (fun _ _ z => z))
          refine lv_aload_n hx hb dJ11___ieee754_rem_pio2_99 rfl (lv_at hl 5 rfl) ?_
          refine lv_iconst (v := 1) hx hb dJ11___ieee754_rem_pio2_100 (by decide) ?_
          refine lv_dload_n hx hb dJ11___ieee754_rem_pio2_101 rfl (lv_at hl 0 rfl) ?_
          refine lv_aload_n hx hb dJ11___ieee754_rem_pio2_102 rfl (lv_at hl 5 rfl) ?_
          refine lv_iconst (v := 0) hx hb dJ11___ieee754_rem_pio2_103 (by decide) ?_
          refine r_dald hx hb hS h_x2 0 ⟨rfl, by decide, by decide⟩ dJ11___ieee754_rem_pio2_104 ?_
          obtain ⟨v140, ev140, h⟩ := ltd_step h
          refine r_nmD ev140 ?_
          obtain ⟨v141, ev141, nv141, h⟩ := ck_step h
          refine r_dsub hx hb ev141 nv141 dJ11___ieee754_rem_pio2_105 ?_
          refine lv_ldc2d hx hb (v := 4297306550709743731) hown (hts _ q210) dJ11___ieee754_rem_pio2_106 ?_
          obtain ⟨v142, ev142, nv142, h⟩ := ck_step h
          refine r_dsub hx hb ev142 nv142 dJ11___ieee754_rem_pio2_109 ?_
          obtain ⟨f143, ef143, h⟩ := lt_step h
          refine r_dast hx hb hS h_x2 hB_h_x2 1 ⟨rfl, by decide, by decide⟩ dJ11___ieee754_rem_pio2_110 (fun H locs hS hO h_x2 => ?_)
          have h_x2 : aD D x2 2 f143 H := by rw [ef143]; exact h_x2
          have hq1 := hq1.off hO (Ne.symm ne_h_x2_hq1)
          have hF := hF.trans (hO.mono (fun _ _ z => z))
          refine lv_iconst (v := 1) hx hb dJ11___ieee754_rem_pio2_111 (by decide) ?_
          obtain rfl := Option.some.inj h
          rw [eQ]
          exact r_iret hx hb hr hlk hS (Nat.le_of_ble_eq_true rfl) (Nat.le_of_ble_eq_true rfl) dJ11___ieee754_rem_pio2_112 ⟨_, rfl, rfl, h_x2, hF⟩
        · have h := it_neg h c136
          refine lv_aload_n hx hb dJ11___ieee754_rem_pio2_62 rfl (lv_at hl 5 rfl) ?_
          refine lv_iconst (v := 0) hx hb dJ11___ieee754_rem_pio2_63 (by decide) ?_
          refine lv_dload_n hx hb dJ11___ieee754_rem_pio2_64 rfl (lv_at hl 0 rfl) ?_
          refine lv_ldc2d hx hb (v := 4454258360616903473) hown (hts _ q208) dJ11___ieee754_rem_pio2_65 ?_
          obtain ⟨v144, ev144, nv144, h⟩ := ck_step h
          refine r_dsub hx hb ev144 nv144 dJ11___ieee754_rem_pio2_68 ?_
          obtain ⟨f145, ef145, h⟩ := lt_step h
          refine r_dast hx hb hS h_x2 hB_h_x2 0 ⟨rfl, by decide, by decide⟩ dJ11___ieee754_rem_pio2_69 (fun H locs hS hO h_x2 => ?_)
          have h_x2 : aD D x2 2 f145 H := by rw [ef145]; exact h_x2
          have hq1 := hq1.off hO (Ne.symm ne_h_x2_hq1)
          have hF := hF.trans (hO.mono (fun _ _ z => z))
          refine lv_aload_n hx hb dJ11___ieee754_rem_pio2_70 rfl (lv_at hl 5 rfl) ?_
          refine lv_iconst (v := 1) hx hb dJ11___ieee754_rem_pio2_71 (by decide) ?_
          refine lv_dload_n hx hb dJ11___ieee754_rem_pio2_72 rfl (lv_at hl 0 rfl) ?_
          refine lv_aload_n hx hb dJ11___ieee754_rem_pio2_73 rfl (lv_at hl 5 rfl) ?_
          refine lv_iconst (v := 0) hx hb dJ11___ieee754_rem_pio2_74 (by decide) ?_
          refine r_dald hx hb hS h_x2 0 ⟨rfl, by decide, by decide⟩ dJ11___ieee754_rem_pio2_75 ?_
          obtain ⟨v146, ev146, h⟩ := ltd_step h
          refine r_nmD ev146 ?_
          obtain ⟨v147, ev147, nv147, h⟩ := ck_step h
          refine r_dsub hx hb ev147 nv147 dJ11___ieee754_rem_pio2_76 ?_
          refine lv_ldc2d hx hb (v := 4454258360616903473) hown (hts _ q208) dJ11___ieee754_rem_pio2_77 ?_
          obtain ⟨v148, ev148, nv148, h⟩ := ck_step h
          refine r_dsub hx hb ev148 nv148 dJ11___ieee754_rem_pio2_80 ?_
          obtain ⟨f149, ef149, h⟩ := lt_step h
          refine r_dast hx hb hS h_x2 hB_h_x2 1 ⟨rfl, by decide, by decide⟩ dJ11___ieee754_rem_pio2_81 (fun H locs hS hO h_x2 => ?_)
          have h_x2 : aD D x2 2 f149 H := by rw [ef149]; exact h_x2
          have hq1 := hq1.off hO (Ne.symm ne_h_x2_hq1)
          have hF := hF.trans (hO.mono (fun _ _ z => z))
          refine lv_goto (tgt := 111) hx hb dJ11___ieee754_rem_pio2_82 (by decide) ?_
          refine lv_iconst (v := 1) hx hb dJ11___ieee754_rem_pio2_111 (by decide) ?_
          obtain rfl := Option.some.inj h
          rw [eQ]
          exact r_iret hx hb hr hlk hS (Nat.le_of_ble_eq_true rfl) (Nat.le_of_ble_eq_true rfl) dJ11___ieee754_rem_pio2_112 ⟨_, rfl, rfl, h_x2, hF⟩
  · have h := it_neg h c4
    refine lv_aload_n hx hb dJ11___ieee754_rem_pio2_27 rfl (lv_at hl 5 rfl) ?_
    refine lv_iconst (v := 0) hx hb dJ11___ieee754_rem_pio2_28 (by decide) ?_
    refine lv_dload_n hx hb dJ11___ieee754_rem_pio2_29 rfl (lv_at hl 4 rfl) ?_
    obtain ⟨f150, ef150, h⟩ := lt_step h
    refine r_dast hx hb hS h_x2 hB_h_x2 0 ⟨rfl, by decide, by decide⟩ dJ11___ieee754_rem_pio2_30 (fun H locs hS hO h_x2 => ?_)
    have h_x2 : aD D x2 2 f150 H := by rw [ef150]; exact h_x2
    have hq1 := hq1.off hO (Ne.symm ne_h_x2_hq1)
    have hF := hF.trans (hO.mono (fun _ _ z => z))
    refine lv_aload_n hx hb dJ11___ieee754_rem_pio2_31 rfl (lv_at hl 5 rfl) ?_
    refine lv_iconst (v := 1) hx hb dJ11___ieee754_rem_pio2_32 (by decide) ?_
    refine lv_dconst0 hx hb dJ11___ieee754_rem_pio2_33 ?_
    obtain ⟨f151, ef151, h⟩ := lt_step h
    refine r_dast hx hb hS h_x2 hB_h_x2 1 ⟨rfl, by decide, by decide⟩ dJ11___ieee754_rem_pio2_34 (fun H locs hS hO h_x2 => ?_)
    have h_x2 : aD D x2 2 f151 H := by rw [ef151]; exact h_x2
    have hq1 := hq1.off hO (Ne.symm ne_h_x2_hq1)
    have hF := hF.trans (hO.mono (fun _ _ z => z))
    refine lv_iconst (v := 0) hx hb dJ11___ieee754_rem_pio2_35 (by decide) ?_
    obtain rfl := Option.some.inj h
    rw [eQ]
    exact r_iret hx hb hr hlk hS (Nat.le_of_ble_eq_true rfl) (Nat.le_of_ble_eq_true rfl) dJ11___ieee754_rem_pio2_36 ⟨_, rfl, rfl, h_x2, hF⟩

