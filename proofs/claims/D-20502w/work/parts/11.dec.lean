/-! what the decompiled functions are made of: each step binds its answer; none: a step that the machine does not take in this way (a NaN, an index out of bounds ..) -/
noncomputable def dcmpN (x y : Nat) : Int32 := @Bool.rec (fun _ => Int32)
  (@Bool.rec (fun _ => Int32) (@Bool.rec (fun _ => Int32) (@Bool.rec (fun _ => Int32) (0 : Int32) (1 : Int32) (Nat.blt x y)) (-1 : Int32) (Nat.blt y x)) (@Bool.rec (fun _ => Int32) (-1 : Int32) (0 : Int32) (Nat.beq (Nat.add (Nat.sub x (nat_lit 9223372036854775808)) y) (nat_lit 0))) (Nat.blt y (nat_lit 9223372036854775808)))
  (@Bool.rec (fun _ => Int32) (@Bool.rec (fun _ => Int32) (1 : Int32) (0 : Int32) (Nat.beq (Nat.add (Nat.sub y (nat_lit 9223372036854775808)) x) (nat_lit 0))) (@Bool.rec (fun _ => Int32) (@Bool.rec (fun _ => Int32) (0 : Int32) (1 : Int32) (Nat.blt y x)) (-1 : Int32) (Nat.blt x y)) (Nat.blt y (nat_lit 9223372036854775808)))
  (Nat.blt x (nat_lit 9223372036854775808))
def dfinB (x : Nat) : Bool := Nat.blt (Nat.mod x (nat_lit 9223372036854775808)) (nat_lit 9218868437227405312)
noncomputable def dcmpF (x y : UInt64) (op : ClassFile.CmpOp) : Int32 := frc x.toNat fun a => frc y.toNat fun b => @Bool.rec (fun _ => Int32) (Op.cmpValue (FP.dcmp x y) op) (@Bool.rec (fun _ => Int32) (Op.cmpValue (FP.dcmp x y) op) (dcmpN a b) (dfinB b)) (dfinB a)
def ordI : Ordering → Int32
  | .lt => -1
  | .eq => 0
  | .gt => 1
theorem dcmpN_ok (x y : Nat) (hx : x < 18446744073709551616) (hy : y < 18446744073709551616) : dcmpN x y = ordI (compare (dkey x) (dkey y)) := by
  unfold dcmpN dkey
  repeat rw [b_rec]
  have e1 : ∀ {p q : Int}, p < q → ordI (compare p q) = -1 := fun h => by rw [Int.compare_eq_lt.mpr h]; rfl
  have e2 : ∀ {p q : Int}, q < p → ordI (compare p q) = 1 := fun h => by rw [Int.compare_eq_gt.mpr h]; rfl
  have e3 : ∀ {p q : Int}, p = q → ordI (compare p q) = 0 := fun h => by rw [Int.compare_eq_eq.mpr h]; rfl
  have bl : ∀ {m n : Nat}, (Nat.blt m n = true) = (m < n) := fun {m n} => Nat.blt_eq
  have bq : ∀ {m n : Nat}, (Nat.beq m n = true) = (m = n) := fun {m n} => Nat.beq_eq
  simp only [bl, bq]
  by_cases c1 : x < 9223372036854775808
  · rw [if_pos c1, if_pos c1]
    by_cases c2 : y < 9223372036854775808
    · rw [if_pos c2, if_pos c2]
      by_cases c3 : x < y
      · rw [if_pos c3, e1 (by omega)]
      · rw [if_neg c3]
        by_cases c4 : y < x
        · rw [if_pos c4, e2 (by omega)]
        · rw [if_neg c4, e3 (by omega)]
    · rw [if_neg c2, if_neg c2]
      by_cases c3 : y - 9223372036854775808 + x = 0
      · rw [if_pos (show (y.sub 9223372036854775808).add x = 0 from c3), e3 (by omega)]
      · rw [if_neg (show ¬ (y.sub 9223372036854775808).add x = 0 from c3), e2 (by omega)]
  · rw [if_neg c1, if_neg c1]
    by_cases c2 : y < 9223372036854775808
    · rw [if_pos c2, if_pos c2]
      by_cases c3 : x - 9223372036854775808 + y = 0
      · rw [if_pos (show (x.sub 9223372036854775808).add y = 0 from c3), e3 (by omega)]
      · rw [if_neg (show ¬ (x.sub 9223372036854775808).add y = 0 from c3), e1 (by omega)]
    · rw [if_neg c2, if_neg c2]
      by_cases c3 : y < x
      · rw [if_pos c3, e1 (by omega)]
      · rw [if_neg c3]
        by_cases c4 : x < y
        · rw [if_pos c4, e2 (by omega)]
        · rw [if_neg c4, e3 (by omega)]
theorem cmpValue_ord (o : Ordering) (op : ClassFile.CmpOp) : Op.cmpValue (some o) op = ordI o := by cases o <;> rfl
theorem dcmpF_eq (x y : UInt64) (op : ClassFile.CmpOp) : dcmpF x y op = Op.cmpValue (FP.dcmp x y) op := by
  unfold dcmpF
  rw [frc_eq, frc_eq, b_rec, b_rec]
  by_cases c1 : dfinB x.toNat = true
  · rw [if_pos c1]
    by_cases c2 : dfinB y.toNat = true
    · rw [if_pos c2, dcmpN_ok _ _ x.toNat_lt y.toNat_lt, dcmp_key (show dfin x.toNat from Nat.blt_eq.mp c1) (show dfin y.toNat from Nat.blt_eq.mp c2), cmpValue_ord]
    · rw [if_neg c2]
  · rw [if_neg c1]
/-- binds a number: reckoned first -/
def lt {α β : Type} (a : α) (k : α → β) : β := k a
noncomputable def lti {β : Type} (a : Int32) (k : Int32 → β) : β := frc a.toUInt32.toNat fun n => k (Int32.ofUInt32 (UInt32.ofNat n))
noncomputable def ltl {β : Type} (a : Int64) (k : Int64 → β) : β := frc a.toUInt64.toNat fun n => k (Int64.ofUInt64 (UInt64.ofNat n))
noncomputable def ltd {β : Type} (a : UInt64) (k : UInt64 → β) : β := frc a.toNat fun n => k (UInt64.ofNat n)
theorem lti_eq {β : Type} (a : Int32) (k : Int32 → β) : lti a k = k a := by
  unfold lti
  rw [frc_eq, UInt32.ofNat_toNat]
theorem ltl_eq {β : Type} (a : Int64) (k : Int64 → β) : ltl a k = k a := by
  unfold ltl
  rw [frc_eq, UInt64.ofNat_toNat]
theorem ltd_eq {β : Type} (a : UInt64) (k : UInt64 → β) : ltd a k = k a := by
  unfold ltd
  rw [frc_eq, UInt64.ofNat_toNat]
theorem lt_step {α β : Type} {a : α} {k : α → Option β} {r : β} (h : lt a k = some r) : ∃ w : α, w = a ∧ k w = some r := ⟨a, rfl, h⟩
theorem lti_step {β : Type} {a : Int32} {k : Int32 → Option β} {r : β} (h : lti a k = some r) : ∃ w : Int32, w = a ∧ k w = some r := ⟨a, rfl, by rw [lti_eq] at h; exact h⟩
theorem ltl_step {β : Type} {a : Int64} {k : Int64 → Option β} {r : β} (h : ltl a k = some r) : ∃ w : Int64, w = a ∧ k w = some r := ⟨a, rfl, by rw [ltl_eq] at h; exact h⟩
theorem ltd_step {β : Type} {a : UInt64} {k : UInt64 → Option β} {r : β} (h : ltd a k = some r) : ∃ w : UInt64, w = a ∧ k w = some r := ⟨a, rfl, by rw [ltd_eq] at h; exact h⟩
/-- the place j in n places -/
noncomputable def gd {β : Type} (n : Nat) (j : Int32) (k : Nat → Option β) : Option β := frc j.toUInt32.toNat fun i => @Bool.rec (fun _ => Option β) none (k i) (Nat.blt i n)
theorem gd_step {β : Type} {n : Nat} {j : Int32} {k : Nat → Option β} {r : β} (hn : n ≤ 2147483647) (h : gd n j k = some r) : ∃ i : Nat, IX j n i ∧ k i = some r := by
  unfold gd at h
  rw [frc_eq, b_rec] at h
  by_cases c : j.toUInt32.toNat < n
  · rw [if_pos (show Nat.blt j.toUInt32.toNat n = true from Nat.blt_eq.mpr c)] at h
    refine ⟨_, ⟨?_, c, hn⟩, h⟩
    show j = Int32.ofNat j.toUInt32.toNat
    exact (congrArg Int32.ofUInt32 (UInt32.ofNat_toNat (x := j.toUInt32))).symm
  · rw [if_neg (show ¬ Nat.blt j.toUInt32.toNat n = true from fun z => c (Nat.blt_eq.mp z))] at h; cases h
/-- a thing that is asked, or none -/
noncomputable def ask {β : Type} (b : Bool) (k : Option β) : Option β := @Bool.rec (fun _ => Option β) none k b
theorem ask_step {β : Type} {b : Bool} {k : Option β} {r : β} (h : ask b k = some r) : b = true ∧ k = some r := by
  cases b with
  | false => cases h
  | true => exact ⟨rfl, h⟩
theorem it_pos {α : Type} {c : Prop} [Decidable c] {a b r : α} (h : (if c then a else b) = r) (hc : c) : a = r := by rw [if_pos hc] at h; exact h
theorem it_neg {α : Type} {c : Prop} [Decidable c] {a b r : α} (h : (if c then a else b) = r) (hc : ¬ c) : b = r := by rw [if_neg hc] at h; exact h
/-- a call of a decompiled function -/
theorem bind_step {α β : Type} {a : Option α} {k : α → Option β} {r : β} (h : Option.bind a k = some r) : ∃ w : α, a = some w ∧ k w = some r := by
  cases a with
  | none => cases h
  | some w => exact ⟨w, rfl, h⟩
section NAMED
variable {p : Program} {l : Launch} {e : Env} {R : Room} {s : State} {m : MethodId} {args : Array Value} {below : List Frame} {meth : Method} {c : Code} {H : Heap} {locs : List Loc} {cells slots : Nat} {Q : State → Prop}
variable {cc : ByteArray} {pc : Nat} {ls : Array Slot} {rest : List Value}
theorem r_iadd (hx : p.tables.exec = Jvm.exec) (hb : c.code = cc) {x y : Int32} {v : Int32} (hv : v = x + y) (hdg : decode cc pc = .ok (.iadd, 1))
    (k : W p l e R s m args below meth c H locs cells slots Q (F0 m (pc + 1) ls (.int v :: rest))) : W p l e R s m args below meth c H locs cells slots Q (F0 m pc ls (.int y :: .int x :: rest)) := by
  subst hv
  exact lv_iadd hx hb hdg k
theorem r_isub (hx : p.tables.exec = Jvm.exec) (hb : c.code = cc) {x y : Int32} {v : Int32} (hv : v = x - y) (hdg : decode cc pc = .ok (.isub, 1))
    (k : W p l e R s m args below meth c H locs cells slots Q (F0 m (pc + 1) ls (.int v :: rest))) : W p l e R s m args below meth c H locs cells slots Q (F0 m pc ls (.int y :: .int x :: rest)) := by
  subst hv
  exact lv_isub hx hb hdg k
theorem r_imul (hx : p.tables.exec = Jvm.exec) (hb : c.code = cc) {x y : Int32} {v : Int32} (hv : v = x * y) (hdg : decode cc pc = .ok (.imul, 1))
    (k : W p l e R s m args below meth c H locs cells slots Q (F0 m (pc + 1) ls (.int v :: rest))) : W p l e R s m args below meth c H locs cells slots Q (F0 m pc ls (.int y :: .int x :: rest)) := by
  subst hv
  exact lv_imul hx hb hdg k
theorem r_iand (hx : p.tables.exec = Jvm.exec) (hb : c.code = cc) {x y : Int32} {v : Int32} (hv : v = x &&& y) (hdg : decode cc pc = .ok (.iand, 1))
    (k : W p l e R s m args below meth c H locs cells slots Q (F0 m (pc + 1) ls (.int v :: rest))) : W p l e R s m args below meth c H locs cells slots Q (F0 m pc ls (.int y :: .int x :: rest)) := by
  subst hv
  exact lv_iand hx hb hdg k
theorem r_ior (hx : p.tables.exec = Jvm.exec) (hb : c.code = cc) {x y : Int32} {v : Int32} (hv : v = x ||| y) (hdg : decode cc pc = .ok (.ior, 1))
    (k : W p l e R s m args below meth c H locs cells slots Q (F0 m (pc + 1) ls (.int v :: rest))) : W p l e R s m args below meth c H locs cells slots Q (F0 m pc ls (.int y :: .int x :: rest)) := by
  subst hv
  exact lv_ior hx hb hdg k
theorem r_ixor (hx : p.tables.exec = Jvm.exec) (hb : c.code = cc) {x y : Int32} {v : Int32} (hv : v = x ^^^ y) (hdg : decode cc pc = .ok (.ixor, 1))
    (k : W p l e R s m args below meth c H locs cells slots Q (F0 m (pc + 1) ls (.int v :: rest))) : W p l e R s m args below meth c H locs cells slots Q (F0 m pc ls (.int y :: .int x :: rest)) := by
  subst hv
  exact lv_ixor hx hb hdg k
theorem r_ishl (hx : p.tables.exec = Jvm.exec) (hb : c.code = cc) {x y : Int32} {v : Int32} (hv : v = x <<< (y &&& 31)) (hdg : decode cc pc = .ok (.ishl, 1))
    (k : W p l e R s m args below meth c H locs cells slots Q (F0 m (pc + 1) ls (.int v :: rest))) : W p l e R s m args below meth c H locs cells slots Q (F0 m pc ls (.int y :: .int x :: rest)) := by
  subst hv
  exact lv_ishl hx hb hdg k
theorem r_ishr (hx : p.tables.exec = Jvm.exec) (hb : c.code = cc) {x y : Int32} {v : Int32} (hv : v = x >>> (y &&& 31)) (hdg : decode cc pc = .ok (.ishr, 1))
    (k : W p l e R s m args below meth c H locs cells slots Q (F0 m (pc + 1) ls (.int v :: rest))) : W p l e R s m args below meth c H locs cells slots Q (F0 m pc ls (.int y :: .int x :: rest)) := by
  subst hv
  exact lv_ishr hx hb hdg k
theorem r_idiv (hx : p.tables.exec = Jvm.exec) (hb : c.code = cc) {x y : Int32} {v : Int32} (hv : v = x / y) (hne : ¬ y = 0) (hdg : decode cc pc = .ok (.idiv, 1))
    (k : W p l e R s m args below meth c H locs cells slots Q (F0 m (pc + 1) ls (.int v :: rest))) : W p l e R s m args below meth c H locs cells slots Q (F0 m pc ls (.int y :: .int x :: rest)) := by
  subst hv
  exact lv_idiv hx hb hdg hne k
theorem r_irem (hx : p.tables.exec = Jvm.exec) (hb : c.code = cc) {x y : Int32} {v : Int32} (hv : v = x - x / y * y) (hne : ¬ y = 0) (hdg : decode cc pc = .ok (.irem, 1))
    (k : W p l e R s m args below meth c H locs cells slots Q (F0 m (pc + 1) ls (.int v :: rest))) : W p l e R s m args below meth c H locs cells slots Q (F0 m pc ls (.int y :: .int x :: rest)) := by
  subst hv
  exact lv_irem hx hb hdg hne k
theorem r_iushr (hx : p.tables.exec = Jvm.exec) (hb : c.code = cc) {x y : Int32} {v : Int32} (hv : v = (x.toUInt32 >>> (y.toUInt32 &&& Int32.toUInt32 31)).toInt32) (hdg : decode cc pc = .ok (.iushr, 1))
    (k : W p l e R s m args below meth c H locs cells slots Q (F0 m (pc + 1) ls (.int v :: rest))) : W p l e R s m args below meth c H locs cells slots Q (F0 m pc ls (.int y :: .int x :: rest)) := by
  subst hv
  exact lv_iushr hx hb hdg rfl k
theorem r_ineg (hx : p.tables.exec = Jvm.exec) (hb : c.code = cc) {x : Int32} {v : Int32} (hv : v = -x) (hdg : decode cc pc = .ok (.ineg, 1))
    (k : W p l e R s m args below meth c H locs cells slots Q (F0 m (pc + 1) ls (.int v :: rest))) : W p l e R s m args below meth c H locs cells slots Q (F0 m pc ls (.int x :: rest)) := by
  subst hv
  exact lv_ineg hx hb hdg k
theorem r_ladd (hx : p.tables.exec = Jvm.exec) (hb : c.code = cc) {x y : Int64} {v : Int64} (hv : v = x + y) (hdg : decode cc pc = .ok (.ladd, 1))
    (k : W p l e R s m args below meth c H locs cells slots Q (F0 m (pc + 1) ls (.long v :: rest))) : W p l e R s m args below meth c H locs cells slots Q (F0 m pc ls (.long y :: .long x :: rest)) := by
  subst hv
  exact lv_ladd hx hb hdg k
theorem r_lsub (hx : p.tables.exec = Jvm.exec) (hb : c.code = cc) {x y : Int64} {v : Int64} (hv : v = x - y) (hdg : decode cc pc = .ok (.lsub, 1))
    (k : W p l e R s m args below meth c H locs cells slots Q (F0 m (pc + 1) ls (.long v :: rest))) : W p l e R s m args below meth c H locs cells slots Q (F0 m pc ls (.long y :: .long x :: rest)) := by
  subst hv
  exact lv_lsub hx hb hdg k
theorem r_lmul (hx : p.tables.exec = Jvm.exec) (hb : c.code = cc) {x y : Int64} {v : Int64} (hv : v = x * y) (hdg : decode cc pc = .ok (.lmul, 1))
    (k : W p l e R s m args below meth c H locs cells slots Q (F0 m (pc + 1) ls (.long v :: rest))) : W p l e R s m args below meth c H locs cells slots Q (F0 m pc ls (.long y :: .long x :: rest)) := by
  subst hv
  exact lv_lmul hx hb hdg k
theorem r_land (hx : p.tables.exec = Jvm.exec) (hb : c.code = cc) {x y : Int64} {v : Int64} (hv : v = x &&& y) (hdg : decode cc pc = .ok (.land, 1))
    (k : W p l e R s m args below meth c H locs cells slots Q (F0 m (pc + 1) ls (.long v :: rest))) : W p l e R s m args below meth c H locs cells slots Q (F0 m pc ls (.long y :: .long x :: rest)) := by
  subst hv
  exact lv_land hx hb hdg k
theorem r_lor (hx : p.tables.exec = Jvm.exec) (hb : c.code = cc) {x y : Int64} {v : Int64} (hv : v = x ||| y) (hdg : decode cc pc = .ok (.lor, 1))
    (k : W p l e R s m args below meth c H locs cells slots Q (F0 m (pc + 1) ls (.long v :: rest))) : W p l e R s m args below meth c H locs cells slots Q (F0 m pc ls (.long y :: .long x :: rest)) := by
  subst hv
  exact lv_lor hx hb hdg k
theorem r_lxor (hx : p.tables.exec = Jvm.exec) (hb : c.code = cc) {x y : Int64} {v : Int64} (hv : v = x ^^^ y) (hdg : decode cc pc = .ok (.lxor, 1))
    (k : W p l e R s m args below meth c H locs cells slots Q (F0 m (pc + 1) ls (.long v :: rest))) : W p l e R s m args below meth c H locs cells slots Q (F0 m pc ls (.long y :: .long x :: rest)) := by
  subst hv
  exact lv_lxor hx hb hdg k
theorem r_ldiv (hx : p.tables.exec = Jvm.exec) (hb : c.code = cc) {x y : Int64} {v : Int64} (hv : v = x / y) (hne : ¬ y = 0) (hdg : decode cc pc = .ok (.ldiv, 1))
    (k : W p l e R s m args below meth c H locs cells slots Q (F0 m (pc + 1) ls (.long v :: rest))) : W p l e R s m args below meth c H locs cells slots Q (F0 m pc ls (.long y :: .long x :: rest)) := by
  subst hv
  exact lv_ldiv hx hb hdg hne k
theorem r_lrem (hx : p.tables.exec = Jvm.exec) (hb : c.code = cc) {x y : Int64} {v : Int64} (hv : v = x - x / y * y) (hne : ¬ y = 0) (hdg : decode cc pc = .ok (.lrem, 1))
    (k : W p l e R s m args below meth c H locs cells slots Q (F0 m (pc + 1) ls (.long v :: rest))) : W p l e R s m args below meth c H locs cells slots Q (F0 m pc ls (.long y :: .long x :: rest)) := by
  subst hv
  exact lv_lrem hx hb hdg hne k
theorem r_lneg (hx : p.tables.exec = Jvm.exec) (hb : c.code = cc) {x : Int64} {v : Int64} (hv : v = -x) (hdg : decode cc pc = .ok (.lneg, 1))
    (k : W p l e R s m args below meth c H locs cells slots Q (F0 m (pc + 1) ls (.long v :: rest))) : W p l e R s m args below meth c H locs cells slots Q (F0 m pc ls (.long x :: rest)) := by
  subst hv
  exact lv_lneg hx hb hdg k
theorem r_lshl (hx : p.tables.exec = Jvm.exec) (hb : c.code = cc) {x : Int64} {y : Int32} {v : Int64} (hv : v = x <<< (y.toInt64 &&& 63)) (hdg : decode cc pc = .ok (.lshl, 1))
    (k : W p l e R s m args below meth c H locs cells slots Q (F0 m (pc + 1) ls (.long v :: rest))) : W p l e R s m args below meth c H locs cells slots Q (F0 m pc ls (.int y :: .long x :: rest)) := by
  subst hv
  exact lv_lshl hx hb hdg rfl k
theorem r_lshr (hx : p.tables.exec = Jvm.exec) (hb : c.code = cc) {x : Int64} {y : Int32} {v : Int64} (hv : v = x >>> (y.toInt64 &&& 63)) (hdg : decode cc pc = .ok (.lshr, 1))
    (k : W p l e R s m args below meth c H locs cells slots Q (F0 m (pc + 1) ls (.long v :: rest))) : W p l e R s m args below meth c H locs cells slots Q (F0 m pc ls (.int y :: .long x :: rest)) := by
  subst hv
  exact lv_lshr hx hb hdg rfl k
theorem r_lushr (hx : p.tables.exec = Jvm.exec) (hb : c.code = cc) {x : Int64} {y : Int32} {v : Int64} (hv : v = (x.toUInt64 >>> (y.toInt64.toUInt64 &&& Int64.toUInt64 63)).toInt64) (hdg : decode cc pc = .ok (.lushr, 1))
    (k : W p l e R s m args below meth c H locs cells slots Q (F0 m (pc + 1) ls (.long v :: rest))) : W p l e R s m args below meth c H locs cells slots Q (F0 m pc ls (.int y :: .long x :: rest)) := by
  subst hv
  exact lv_lushr hx hb hdg rfl k
theorem r_lcmp (hx : p.tables.exec = Jvm.exec) (hb : c.code = cc) {x y : Int64} {v : Int32} (hv : v = lg_cmp x y) (hdg : decode cc pc = .ok (.lcmp, 1))
    (k : W p l e R s m args below meth c H locs cells slots Q (F0 m (pc + 1) ls (.int v :: rest))) : W p l e R s m args below meth c H locs cells slots Q (F0 m pc ls (.long y :: .long x :: rest)) := by
  subst hv
  exact W.lcmp hx hb hdg k
theorem r_i2l (hx : p.tables.exec = Jvm.exec) (hb : c.code = cc) {x : Int32} {v : Int64} (hv : v = x.toInt64) (hdg : decode cc pc = .ok (.i2l, 1))
    (k : W p l e R s m args below meth c H locs cells slots Q (F0 m (pc + 1) ls (.long v :: rest))) : W p l e R s m args below meth c H locs cells slots Q (F0 m pc ls (.int x :: rest)) := by
  subst hv
  exact lv_i2l hx hb hdg rfl k
theorem r_l2i (hx : p.tables.exec = Jvm.exec) (hb : c.code = cc) {x : Int64} {v : Int32} (hv : v = x.toInt32) (hdg : decode cc pc = .ok (.l2i, 1))
    (k : W p l e R s m args below meth c H locs cells slots Q (F0 m (pc + 1) ls (.int v :: rest))) : W p l e R s m args below meth c H locs cells slots Q (F0 m pc ls (.long x :: rest)) := by
  subst hv
  exact lv_l2i hx hb hdg rfl k
theorem r_i2b (hx : p.tables.exec = Jvm.exec) (hb : c.code = cc) {x : Int32} {v : Int32} (hv : v = x.toInt8.toInt32) (hdg : decode cc pc = .ok (.i2b, 1))
    (k : W p l e R s m args below meth c H locs cells slots Q (F0 m (pc + 1) ls (.int v :: rest))) : W p l e R s m args below meth c H locs cells slots Q (F0 m pc ls (.int x :: rest)) := by
  subst hv
  exact lv_i2b hx hb hdg rfl k
theorem r_i2c (hx : p.tables.exec = Jvm.exec) (hb : c.code = cc) {x : Int32} {v : Int32} (hv : v = (x.toUInt32 % 65536).toInt32) (hdg : decode cc pc = .ok (.i2c, 1))
    (k : W p l e R s m args below meth c H locs cells slots Q (F0 m (pc + 1) ls (.int v :: rest))) : W p l e R s m args below meth c H locs cells slots Q (F0 m pc ls (.int x :: rest)) := by
  subst hv
  exact lv_i2c hx hb hdg rfl k
theorem r_i2d (hx : p.tables.exec = Jvm.exec) (hb : c.code = cc) {x : Int32} {v : UInt64} (hv : v = i2dF x) (hdg : decode cc pc = .ok (.i2d, 1))
    (k : W p l e R s m args below meth c H locs cells slots Q (F0 m (pc + 1) ls (.double v :: rest))) : W p l e R s m args below meth c H locs cells slots Q (F0 m pc ls (.int x :: rest)) := by
  subst hv
  rw [i2dF_eq] at k
  exact lv_i2d hx hb hdg k
theorem r_d2i (hx : p.tables.exec = Jvm.exec) (hb : c.code = cc) {x : UInt64} {v : Int32} (hv : v = d2iF x) (hdg : decode cc pc = .ok (.d2i, 1))
    (k : W p l e R s m args below meth c H locs cells slots Q (F0 m (pc + 1) ls (.int v :: rest))) : W p l e R s m args below meth c H locs cells slots Q (F0 m pc ls (.double x :: rest)) := by
  subst hv
  rw [d2iF_eq] at k
  exact lv_d2i hx hb hdg k
theorem r_l2dc (hx : p.tables.exec = Jvm.exec) (hb : c.code = cc) {x : Int64} {v : UInt64} (hv : v = FP.l2d x) (hdg : decode cc pc = .ok (.l2d, 1))
    (k : W p l e R s m args below meth c H locs cells slots Q (F0 m (pc + 1) ls (.double v :: rest))) : W p l e R s m args below meth c H locs cells slots Q (F0 m pc ls (.long x :: rest)) := by
  subst hv
  exact lv_l2d hx hb hdg k
theorem r_dadd (hx : p.tables.exec = Jvm.exec) (hb : c.code = cc) {x y : UInt64} {v : UInt64} (hv : v = daddF x y) (hn : vf_n64 v) (hdg : decode cc pc = .ok (.dadd, 1))
    (k : W p l e R s m args below meth c H locs cells slots Q (F0 m (pc + 1) ls (.double v :: rest))) : W p l e R s m args below meth c H locs cells slots Q (F0 m pc ls (.double y :: .double x :: rest)) := by
  subst hv
  rw [daddF_eq] at k hn
  exact lv_dadd hx hb hdg hn k
theorem r_dsub (hx : p.tables.exec = Jvm.exec) (hb : c.code = cc) {x y : UInt64} {v : UInt64} (hv : v = dsubF x y) (hn : vf_n64 v) (hdg : decode cc pc = .ok (.dsub, 1))
    (k : W p l e R s m args below meth c H locs cells slots Q (F0 m (pc + 1) ls (.double v :: rest))) : W p l e R s m args below meth c H locs cells slots Q (F0 m pc ls (.double y :: .double x :: rest)) := by
  subst hv
  rw [dsubF_eq] at k hn
  exact lv_dsub hx hb hdg hn k
theorem r_dmul (hx : p.tables.exec = Jvm.exec) (hb : c.code = cc) {x y : UInt64} {v : UInt64} (hv : v = dmulF x y) (hn : vf_n64 v) (hdg : decode cc pc = .ok (.dmul, 1))
    (k : W p l e R s m args below meth c H locs cells slots Q (F0 m (pc + 1) ls (.double v :: rest))) : W p l e R s m args below meth c H locs cells slots Q (F0 m pc ls (.double y :: .double x :: rest)) := by
  subst hv
  rw [dmulF_eq] at k hn
  exact lv_dmul hx hb hdg hn k
theorem r_ddiv (hx : p.tables.exec = Jvm.exec) (hb : c.code = cc) {x y : UInt64} {v : UInt64} (hv : v = ddivF x y) (hn : vf_n64 v) (hdg : decode cc pc = .ok (.ddiv, 1))
    (k : W p l e R s m args below meth c H locs cells slots Q (F0 m (pc + 1) ls (.double v :: rest))) : W p l e R s m args below meth c H locs cells slots Q (F0 m pc ls (.double y :: .double x :: rest)) := by
  subst hv
  rw [ddivF_eq] at k hn
  exact lv_ddiv hx hb hdg hn k
theorem r_dneg (hx : p.tables.exec = Jvm.exec) (hb : c.code = cc) {x : UInt64} {v : UInt64} (hv : v = FP.dneg x) (hdg : decode cc pc = .ok (.dneg, 1))
    (k : W p l e R s m args below meth c H locs cells slots Q (F0 m (pc + 1) ls (.double v :: rest))) : W p l e R s m args below meth c H locs cells slots Q (F0 m pc ls (.double x :: rest)) := by
  subst hv
  exact lv_dneg hx hb hdg k
theorem r_dcmp (hx : p.tables.exec = Jvm.exec) (hb : c.code = cc) {x y : UInt64} {op : ClassFile.CmpOp} {v : Int32} (hv : v = dcmpF x y op) (hdg : decode cc pc = .ok (.dcmp op, 1))
    (k : W p l e R s m args below meth c H locs cells slots Q (F0 m (pc + 1) ls (.int v :: rest))) : W p l e R s m args below meth c H locs cells slots Q (F0 m pc ls (.double y :: .double x :: rest)) := by
  subst hv
  rw [dcmpF_eq] at k
  exact lv_dcmp hx hb hdg k
theorem r_ifz_eq (hx : p.tables.exec = Jvm.exec) (hb : c.code = cc) {b : Bool} {off : Int} {tgt : Nat} (hdg : decode cc pc = .ok (.ifCond .eq off, 3)) (ht : (pc : Int) + off = (tgt : Int))
    (kt : b = false → W p l e R s m args below meth c H locs cells slots Q (F0 m tgt ls rest)) (kf : b = true → W p l e R s m args below meth c H locs cells slots Q (F0 m (pc + 3) ls rest)) : W p l e R s m args below meth c H locs cells slots Q (F0 m pc ls (.int (bI b) :: rest)) := by
  refine lv_if_eq hx hb hdg ht (fun h => kt ?_) (fun h => kf ?_) <;> (cases b <;> first | rfl | exact absurd h (by decide) | exact absurd rfl h)
theorem r_ifz_ne (hx : p.tables.exec = Jvm.exec) (hb : c.code = cc) {b : Bool} {off : Int} {tgt : Nat} (hdg : decode cc pc = .ok (.ifCond .ne off, 3)) (ht : (pc : Int) + off = (tgt : Int))
    (kt : b = true → W p l e R s m args below meth c H locs cells slots Q (F0 m tgt ls rest)) (kf : b = false → W p l e R s m args below meth c H locs cells slots Q (F0 m (pc + 3) ls rest)) : W p l e R s m args below meth c H locs cells slots Q (F0 m pc ls (.int (bI b) :: rest)) := by
  refine lv_if_ne hx hb hdg ht (fun h => kt ?_) (fun h => kf ?_) <;> (cases b <;> first | rfl | exact absurd h (by decide) | exact absurd rfl h)
theorem r_iandB (hx : p.tables.exec = Jvm.exec) (hb : c.code = cc) {x y v : Bool} (hv : v = (x && y)) (hdg : decode cc pc = .ok (.iand, 1))
    (k : W p l e R s m args below meth c H locs cells slots Q (F0 m (pc + 1) ls (.int (bI v) :: rest))) : W p l e R s m args below meth c H locs cells slots Q (F0 m pc ls (.int (bI y) :: .int (bI x) :: rest)) := by
  have e : bI x &&& bI y = bI v := by subst hv; cases x <;> cases y <;> rfl
  exact r_iand hx hb e.symm hdg k
theorem narB (b : Bool) : narrow .boolean (.int (bI b)) = .int (bI b) := by cases b <;> rfl
theorem r_dropS {v : Value} {rest' : List Value} (h : rest = rest') (k : W p l e R s m args below meth c H locs cells slots Q (F0 m pc ls rest')) : W p l e R s m args below meth c H locs cells slots Q (F0 m pc ls rest) := h ▸ k
theorem r_tabIn (hx : p.tables.exec = Jvm.exec) (hb : c.code = cc) {dflt lo hi : Int} {offs : Array Int} {len : Nat} {x : Int32} {off : Int} {tgt : Nat} {z : Int32} (hz : x = z) (hdg : decode cc pc = .ok (.tableswitch dflt lo hi offs, len)) (h1 : ¬ z.toInt < lo) (h2 : ¬ hi < z.toInt) (ho : offs[(z.toInt - lo).toNat]? = some off) (ht : (pc : Int) + off = (tgt : Int))
    (k : W p l e R s m args below meth c H locs cells slots Q (F0 m tgt ls rest)) : W p l e R s m args below meth c H locs cells slots Q (F0 m pc ls (.int x :: rest)) := by
  subst hz
  exact lv_tableIn hx hb hdg h1 h2 ho ht k
theorem r_nmI {x v : Int32} (hv : v = x) (k : W p l e R s m args below meth c H locs cells slots Q (F0 m pc ls (.int v :: rest))) : W p l e R s m args below meth c H locs cells slots Q (F0 m pc ls (.int x :: rest)) := hv ▸ k
theorem r_nmL {x v : Int64} (hv : v = x) (k : W p l e R s m args below meth c H locs cells slots Q (F0 m pc ls (.long v :: rest))) : W p l e R s m args below meth c H locs cells slots Q (F0 m pc ls (.long x :: rest)) := hv ▸ k
theorem r_nmD {x v : UInt64} (hv : v = x) (k : W p l e R s m args below meth c H locs cells slots Q (F0 m pc ls (.double v :: rest))) : W p l e R s m args below meth c H locs cells slots Q (F0 m pc ls (.double x :: rest)) := hv ▸ k
end NAMED
theorem tab_out1 {x : Int32} (h0 : ¬ x = 0) : x.toInt < 0 ∨ 0 < x.toInt := by
  have := lv_neT h0 (a := 0) (by decide)
  omega
theorem tab_out2 {x : Int32} (h0 : ¬ x = 0) (h1 : ¬ x = 1) : x.toInt < 0 ∨ 1 < x.toInt := by
  have := lv_neT h0 (a := 0) (by decide)
  have := lv_neT h1 (a := 1) (by decide)
  omega
theorem tab_out3 {x : Int32} (h0 : ¬ x = 0) (h1 : ¬ x = 1) (h2 : ¬ x = 2) : x.toInt < 0 ∨ 2 < x.toInt := by
  have := lv_neT h0 (a := 0) (by decide)
  have := lv_neT h1 (a := 1) (by decide)
  have := lv_neT h2 (a := 2) (by decide)
  omega
theorem tab_out4 {x : Int32} (h0 : ¬ x = 0) (h1 : ¬ x = 1) (h2 : ¬ x = 2) (h3 : ¬ x = 3) : x.toInt < 0 ∨ 3 < x.toInt := by
  have := lv_neT h0 (a := 0) (by decide)
  have := lv_neT h1 (a := 1) (by decide)
  have := lv_neT h2 (a := 2) (by decide)
  have := lv_neT h3 (a := 3) (by decide)
  omega
theorem tab_out5 {x : Int32} (h0 : ¬ x = 0) (h1 : ¬ x = 1) (h2 : ¬ x = 2) (h3 : ¬ x = 3) (h4 : ¬ x = 4) : x.toInt < 0 ∨ 4 < x.toInt := by
  have := lv_neT h0 (a := 0) (by decide)
  have := lv_neT h1 (a := 1) (by decide)
  have := lv_neT h2 (a := 2) (by decide)
  have := lv_neT h3 (a := 3) (by decide)
  have := lv_neT h4 (a := 4) (by decide)
  omega
