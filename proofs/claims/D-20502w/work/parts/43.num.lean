/-! plain laws of the wheel's numbers: digits of doubles, exact values, nearness, isLawful, told (texts C1 to C5) -/
theorem dcmpF_fin {x y : UInt64} {op : ClassFile.CmpOp} (hx : dfin x.toNat) (hy : dfin y.toNat) : dcmpF x y op = ordI (compare (dkey x.toNat) (dkey y.toNat)) := by
  rw [dcmpF_eq, dcmp_key hx hy, cmpValue_ord]
theorem u64n {n : Nat} (h : n < 18446744073709551616) : (UInt64.ofNat n).toNat = n := UInt64.toNat_ofNat_of_lt' h
/-- a long by its bits -/
def Ln (n : Nat) : Int64 := (UInt64.ofNat n).toInt64
theorem uL_Ln {n : Nat} (h : n < 18446744073709551616) : uL (Ln n) = n := by
  unfold uL Ln
  rw [UInt64.toUInt64_toInt64, UInt64.toNat_ofNat_of_lt' h]
theorem uL_inj {x y : Int64} (h : uL x = uL y) : x = y := by
  have h1 : x.toUInt64 = y.toUInt64 := UInt64.toNat_inj.mp h
  have h2 : x.toUInt64.toInt64 = y.toUInt64.toInt64 := by rw [h1]
  simpa using h2
theorem Ln_of {x : Int64} {n : Nat} (h : uL x = n) : x = Ln n := uL_inj (by rw [uL_Ln (by rw [← h]; exact uL_lt x), h])
theorem Ln_toInt {n : Nat} (h : n < 18446744073709551616) : (Ln n).toInt = if n < 9223372036854775808 then (n : Int) else (n : Int) - 18446744073709551616 := by
  show (Ln n).toBitVec.toInt = _
  rw [BitVec.toInt_eq_toNat_cond]
  have e : (Ln n).toBitVec.toNat = n := uL_Ln h
  rw [e]
  by_cases c : n < 9223372036854775808
  · rw [if_pos (by omega), if_pos c]
  · rw [if_neg (by omega), if_neg c]; rfl
theorem lit_L (n : Nat) (h : n < 9223372036854775808) : (OfNat.ofNat n : Int64) = Ln n := rfl
/-- the parts of a double's bits -/
def mg (n : Nat) : Nat := n % 9223372036854775808
def ex (n : Nat) : Nat := n % 9223372036854775808 / 4503599627370496
def fr (n : Nat) : Nat := n % 4503599627370496
def sg (n : Nat) : Nat := n / 9223372036854775808
theorem dkey_self (n : Nat) : ordI (compare (dkey n) (dkey n)) = 0 := by
  rw [Int.compare_eq_eq.mpr rfl]; rfl
theorem isNaN_ok {x : UInt64} (h : dfin x.toNat) : f_J10_isNaN x = some false := by
  unfold f_J10_isNaN
  simp only [lti_eq]
  rw [dcmpF_fin h h, dkey_self, if_pos rfl]
theorem d2l_ok {x : UInt64} (h : dfin x.toNat) : f_J10_doubleToLongBits x = some (Ln x.toNat) := by
  unfold f_J10_doubleToLongBits
  rw [isNaN_ok h, Option.bind_some, if_neg (by decide), ltl_eq]
  unfold Ln
  rw [UInt64.ofNat_toNat]
theorem digitsOf_ok {x : UInt64} (h : dfin x.toNat) : f_X1_digitsOf x = some (Ln x.toNat) := by
  unfold f_X1_digitsOf
  rw [d2l_ok h, Option.bind_some]
theorem uL_andmask {x : Int64} {m : Int64} {k : Nat} (hm : uL m = 2 ^ k - 1) : uL (x &&& m) = uL x % 2 ^ k := by
  unfold uL at *
  rw [Int64.toUInt64_and, UInt64.toNat_and, hm]
  exact Nat.and_two_pow_sub_one_eq_mod _ k
theorem uL_shrU {v : Int64} {k : Nat} (hk : k < 64) (hk2 : ((nI k).toInt64.toUInt64 &&& Int64.toUInt64 63).toNat = k) : uL ((v.toUInt64 >>> ((nI k).toInt64.toUInt64 &&& Int64.toUInt64 63)).toInt64) = uL v / 2 ^ k := by
  unfold uL
  rw [UInt64.toUInt64_toInt64, UInt64.toNat_shiftRight, hk2, Nat.mod_eq_of_lt hk, Nat.shiftRight_eq_div_pow]
theorem sizeOf_ok {x : UInt64} (h : dfin x.toNat) : f_X1_sizeOf x = some (UInt64.ofNat (mg x.toNat)) := by
  unfold f_X1_sizeOf
  rw [digitsOf_ok h, Option.bind_some]
  simp only [ltl_eq, ltd_eq]
  have hx := x.toNat_lt
  have e1 : uL (Ln x.toNat &&& 9223372036854775807) = mg x.toNat := by
    rw [uL_andmask (k := 63) (by rfl), uL_Ln hx]; rfl
  have e2 : (Ln x.toNat &&& 9223372036854775807).toUInt64 = UInt64.ofNat (mg x.toNat) := by
    apply UInt64.toNat_inj.mp
    show uL _ = _
    rw [e1, u64n (by unfold mg; omega)]
  have hm : mg x.toNat < 9218868437227405312 := h
  have e3 : vn_snl2d (Ln x.toNat &&& 9223372036854775807) = false := by
    unfold vn_snl2d
    rw [e2, Bool.and_eq_false_iff]
    refine Or.inl (decide_eq_false ?_)
    intro z
    have z2 : (9218868437227405312 : UInt64) < (UInt64.ofNat (mg x.toNat) &&& 9223372036854775807) := z
    rw [UInt64.lt_iff_toNat_lt, UInt64.toNat_and, u64n (by omega)] at z2
    have e4 : mg x.toNat &&& (9223372036854775807 : UInt64).toNat = mg x.toNat % 2 ^ 63 := Nat.and_two_pow_sub_one_eq_mod _ 63
    rw [e4] at z2
    have e5 : (9218868437227405312 : UInt64).toNat = 9218868437227405312 := rfl
    omega
  rw [ask_in (by rw [e3]; rfl), e2]
theorem fractionOf_ok {x : UInt64} (h : dfin x.toNat) : f_X1_fractionOf x = some (Ln (fr x.toNat)) := by
  unfold f_X1_fractionOf
  rw [digitsOf_ok h, Option.bind_some, ltl_eq]
  exact congrArg some (Ln_of (by rw [uL_andmask (k := 52) (by rfl), uL_Ln x.toNat_lt]; rfl))
theorem exponentOf_ok {x : UInt64} (h : dfin x.toNat) : f_X1_exponentOf x = some (nI (ex x.toNat)) := by
  unfold f_X1_exponentOf
  rw [digitsOf_ok h, Option.bind_some]
  simp only [ltl_eq, lti_eq]
  have e1 : uL (Ln x.toNat &&& 9223372036854775807) = mg x.toNat := by
    rw [uL_andmask (k := 63) (by rfl), uL_Ln x.toNat_lt]; rfl
  have e2 := uL_shrU (v := Ln x.toNat &&& 9223372036854775807) (k := 52) (by decide) (by decide)
  rw [show (52 : Int32) = nI 52 from rfl]
  congr 1
  apply wd_inj
  have hx := x.toNat_lt
  have hm : mg x.toNat < 9223372036854775808 := Nat.mod_lt _ (by decide)
  rw [wd_l2i, e2, e1, wd_nI (by unfold ex; omega)]
  unfold mg at *
  unfold ex
  omega
theorem bit_ok (b : Bool) : f_X1_bit b = some (bI b) := by
  unfold f_X1_bit
  cases b <;> rfl
theorem signOf_ok {x : UInt64} (h : dfin x.toNat) : f_X1_signOf x = some (nI (sg x.toNat)) := by
  unfold f_X1_signOf
  rw [digitsOf_ok h, Option.bind_some, lti_eq, lcmp0, Ln_toInt x.toNat_lt, bit_ok, bit_ok]
  have hx := x.toNat_lt
  by_cases c : x.toNat < 9223372036854775808
  · rw [if_pos c]
    have e : sg x.toNat = 0 := by unfold sg; omega
    rw [e]
    by_cases c0 : 0 < (x.toNat : Int)
    · rw [if_pos c0, if_pos (by decide)]; rfl
    · rw [if_neg c0, if_pos (show (x.toNat : Int) = 0 by omega), if_pos (by decide)]; rfl
  · rw [if_neg c]
    have e : sg x.toNat = 1 := by unfold sg; omega
    rw [e, if_neg (show ¬ (0 : Int) < (x.toNat : Int) - 18446744073709551616 by omega), if_neg (show ¬ (x.toNat : Int) - 18446744073709551616 = 0 by omega), if_neg (by decide)]; rfl
theorem Ln_inj {a b : Nat} (ha : a < 18446744073709551616) (hb : b < 18446744073709551616) : (Ln a = Ln b) = (a = b) := by
  simp only [eq_iff_iff]
  exact ⟨fun e => by rw [← uL_Ln ha, ← uL_Ln hb, e], fun e => by rw [e]⟩
theorem lcmp_eq0 (a b : Int64) : (lg_cmp a b = 0) = (a = b) := by
  unfold lg_cmp
  simp only [eq_iff_iff]
  by_cases c : a > b
  · rw [if_pos c]
    exact ⟨fun z => absurd z (by decide), fun e => by rw [e] at c; exact absurd c (Int64.lt_irrefl)⟩
  · rw [if_neg c]
    by_cases d : a = b
    · rw [if_pos d]; exact ⟨fun _ => d, fun _ => rfl⟩
    · rw [if_neg d]; exact ⟨fun z => absurd z (by decide), fun e => absurd e d⟩
theorem ite_eqP {α : Type} {p q : Prop} [Decidable p] [Decidable q] (h : p = q) (a b : α) : (if p then a else b) = if q then a else b := by
  by_cases c : p
  · rw [if_pos c, if_pos (h ▸ c)]
  · rw [if_neg c, if_neg (h ▸ c)]
theorem isSame_ok {x y : UInt64} (hx : dfin x.toNat) (hy : dfin y.toNat) : f_X1_isSame x y = some (decide (x = y)) := by
  unfold f_X1_isSame
  rw [digitsOf_ok hx, digitsOf_ok hy, Option.bind_some, Option.bind_some, lti_eq]
  rw [ite_eqP (((lcmp_eq0 _ _).trans (Ln_inj x.toNat_lt y.toNat_lt)).trans (propext UInt64.toNat_inj))]
  by_cases c : x = y
  · rw [if_pos c, decide_eq_true c]
  · rw [if_neg c, decide_eq_false c]
theorem equals_ok {x y : UInt64} (hx : dfin x.toNat) (hy : dfin y.toNat) : f_J10_equals x y = some (decide (x = y)) := by
  unfold f_J10_equals
  rw [d2l_ok hx, d2l_ok hy, Option.bind_some, Option.bind_some, lti_eq]
  rw [ite_eqP (((lcmp_eq0 _ _).trans (Ln_inj y.toNat_lt x.toNat_lt)).trans (propext UInt64.toNat_inj))]
  by_cases c : x = y
  · rw [if_pos c.symm, decide_eq_true c]
  · rw [if_neg (fun z => c z.symm), decide_eq_false c]
/-- the order of doubles: -0 ahead of 0 -/
def tk (n : Nat) : Int := if n < 9223372036854775808 then (n : Int) else -((n - 9223372036854775808 : Nat) : Int) - 1
def cmp3 (a b : Int) : Int32 := if a < b then -1 else if a = b then 0 else 1
theorem ordI_cmp (a b : Int) : ordI (compare a b) = cmp3 a b := by
  unfold cmp3
  rcases Int.lt_trichotomy a b with h | h | h
  · rw [Int.compare_eq_lt.mpr h, if_pos h]; rfl
  · rw [Int.compare_eq_eq.mpr h, if_neg (by omega), if_pos h]; rfl
  · rw [Int.compare_eq_gt.mpr h, if_neg (by omega), if_neg (by omega)]; rfl
theorem compare_ok {x y : UInt64} (hx : dfin x.toNat) (hy : dfin y.toNat) : f_J10_compare x y = some (cmp3 (tk x.toNat) (tk y.toNat)) := by
  unfold f_J10_compare
  simp only [lti_eq]
  rw [dcmpF_fin hx hy, dcmpF_fin hx hy, ordI_cmp, d2l_ok hx, d2l_ok hy]
  simp only [Option.bind_some]
  have hx2 := x.toNat_lt
  have hy2 := y.toNat_lt
  rw [lcmp_lit, Ln_toInt hx2, Ln_toInt hy2]
  have lt3 : ∀ {a b : Int}, a < b → cmp3 a b = -1 := fun h => by unfold cmp3; rw [if_pos h]
  have eq3 : ∀ {a b : Int}, a = b → cmp3 a b = 0 := fun h => by unfold cmp3; rw [if_neg (by omega), if_pos h]
  have gt3 : ∀ {a b : Int}, b < a → cmp3 a b = 1 := fun h => by unfold cmp3; rw [if_neg (by omega), if_neg (by omega)]
  have key : ∀ a b : Int, (if (if b < a then (1 : Int32) else if a = b then 0 else -1) = 0 then some (0 : Int32) else if 0 ≤ (if b < a then (1 : Int32) else if a = b then 0 else -1) then some 1 else some (-1)) = some (cmp3 a b) := by
    intro a b
    rcases Int.lt_trichotomy a b with h | h | h
    · rw [lt3 h, if_neg (show ¬ b < a by omega), if_neg (show ¬ a = b by omega)]; rfl
    · rw [eq3 h, if_neg (show ¬ b < a by omega), if_pos h]; rfl
    · rw [gt3 h, if_pos h]; rfl
  rw [key]
  rcases Int.lt_trichotomy (dkey x.toNat) (dkey y.toNat) with h | h | h
  · rw [lt3 h, if_neg (by decide)]
    have : tk x.toNat < tk y.toNat := by
      unfold dkey at h
      unfold tk
      split at h <;> split at h <;> (try split) <;> (try split) <;> omega
    rw [lt3 this]
  · rw [eq3 h, if_pos (by decide), if_pos (by decide)]
    apply congrArg some
    have h1 : ((if x.toNat < 9223372036854775808 then (x.toNat : Int) else (x.toNat : Int) - 18446744073709551616) < (if y.toNat < 9223372036854775808 then (y.toNat : Int) else (y.toNat : Int) - 18446744073709551616)) = (tk x.toNat < tk y.toNat) := by
      unfold dkey at h
      unfold tk
      simp only [eq_iff_iff]
      split at h <;> split at h <;> omega
    have h2 : ((if x.toNat < 9223372036854775808 then (x.toNat : Int) else (x.toNat : Int) - 18446744073709551616) = (if y.toNat < 9223372036854775808 then (y.toNat : Int) else (y.toNat : Int) - 18446744073709551616)) = (tk x.toNat = tk y.toNat) := by
      unfold dkey at h
      unfold tk
      simp only [eq_iff_iff]
      split at h <;> split at h <;> omega
    unfold cmp3
    rw [ite_eqP h1, ite_eqP h2]
  · rw [gt3 h, if_pos (by decide), if_neg (by decide)]
    have : tk y.toNat < tk x.toNat := by
      unfold dkey at h
      unfold tk
      split at h <;> split at h <;> (try split) <;> (try split) <;> omega
    rw [gt3 this]
theorem signum_ok (a b : Int) : f_J26_signum (cmp3 a b) = some (cmp3 a b) := by
  have h : ∀ z : Int32, z = -1 ∨ z = 0 ∨ z = 1 → f_J26_signum z = some z := by
    intro z hz
    unfold f_J26_signum
    simp only [lti_eq]
    rcases hz with e | e | e <;> rw [e] <;> rfl
  apply h
  unfold cmp3
  split
  · exact Or.inl rfl
  · split
    · exact Or.inr (Or.inl rfl)
    · exact Or.inr (Or.inr rfl)
theorem orderOf_ok {x y : UInt64} {w : Int32} (hx : dfin x.toNat) (hy : dfin y.toNat) : f_X1_orderOf x y w = some (cmp3 (tk x.toNat) (tk y.toNat)) := by
  unfold f_X1_orderOf f_J10_valueOf f_J10_init f_J9_init f_J10_compareTo
  simp only [Option.bind_some]
  rw [compare_ok hx hy]
  simp only [Option.bind_some]
  rw [signum_ok, Option.bind_some]
  by_cases c : w = 0
  · rw [if_pos c]
  · rw [if_neg c]
theorem isSameBy_ok {x y : UInt64} {w : Int32} (hx : dfin x.toNat) (hy : dfin y.toNat) : f_X1_isSameBy x y w = some (decide (x = y)) := by
  unfold f_X1_isSameBy f_J17_equals
  rw [equals_ok hx hy]
  simp only [Option.bind_some]
  split
  · rfl
  · split
    · rfl
    · cases decide (x = y) <;> rfl
/-- a double's value in units of 2^-sc: a whole number, for the doubles asked -/
def val (n sc : Nat) : Int := if mg n = 0 then 0 else (if n < 9223372036854775808 then 1 else -1) * (((4503599627370496 + fr n) * 2 ^ (ex n + sc - 1075) : Nat) : Int)
/-- a double that is 0, or whose leading digit lies between 2^-17 and 2^17 -/
def mid (n : Nat) : Prop := n < 18446744073709551616 ∧ (mg n = 0 ∨ 1006 ≤ ex n ∧ ex n ≤ 1040)
theorem mid.fin {x : UInt64} (h : mid x.toNat) : dfin x.toNat := by
  obtain ⟨h0, h⟩ := h
  unfold dfin
  unfold mg ex at h
  rcases h with h | ⟨h1, h2⟩ <;> omega
theorem nI_sub_add {a b c : Nat} (h : b ≤ a + c) : nI a - nI b + nI c = nI (a + c - b) := by
  have e : nI a - nI b + nI c = nI a + nI c - nI b := by
    rw [Int32.sub_eq_add_neg, Int32.sub_eq_add_neg, Int32.add_assoc, Int32.add_assoc, Int32.add_comm (-nI b)]
  rw [e, nI_add, nI_sub h]
theorem dcmp_zero {x : UInt64} (h : dfin x.toNat) {op : ClassFile.CmpOp} : (dcmpF (UInt64.ofNat (mg x.toNat)) 0 op = 0) = (mg x.toNat = 0) := by
  have hm : mg x.toNat < 9218868437227405312 := h
  have e : (UInt64.ofNat (mg x.toNat)).toNat = mg x.toNat := u64n (by omega)
  have hf : dfin (UInt64.ofNat (mg x.toNat)).toNat := by rw [e]; unfold dfin; omega
  have h0 : dfin (0 : UInt64).toNat := by show 0 % 9223372036854775808 < 9218868437227405312; decide
  rw [dcmpF_fin hf h0, ordI_cmp, e]
  have k0 : dkey (0 : UInt64).toNat = 0 := rfl
  have k1 : dkey (mg x.toNat) = mg x.toNat := by unfold dkey; rw [if_pos (by omega)]
  rw [k0, k1]
  unfold cmp3
  simp only [eq_iff_iff]
  rw [if_neg (show ¬ (mg x.toNat : Int) < 0 by omega)]
  by_cases c : mg x.toNat = 0
  · rw [if_pos (show (mg x.toNat : Int) = 0 by omega)]; exact ⟨fun _ => c, fun _ => rfl⟩
  · rw [if_neg (show ¬ (mg x.toNat : Int) = 0 by omega)]; exact ⟨fun z => absurd z (by decide), fun z => absurd z c⟩
theorem or52 {f : Nat} (h : f < 4503599627370496) : uL (4503599627370496 ||| Ln f) = 4503599627370496 + f := by
  unfold uL
  rw [Int64.toUInt64_or, UInt64.toNat_or]
  have e1 : (Ln f).toUInt64.toNat = f := uL_Ln (by omega)
  rw [e1]
  have := nat_or_add (a := 1) (b := f) (r := 52) h
  rw [Nat.one_mul] at this
  exact this
theorem exact_ok {x : UInt64} {sc : Nat} (h : mid x.toNat) (hs : 70 ≤ sc ∧ sc ≤ 140) : ∃ s n c, f_X1_exact x (nI sc) = some (s, n, c) ∧ Bg (3 + (sc - 35) / 32) (val x.toNat sc) s n c := by
  have hf := h.fin
  unfold f_X1_exact
  rw [sizeOf_ok hf, fractionOf_ok hf, signOf_ok hf, exponentOf_ok hf]
  simp only [Option.bind_some, lt_eq, lti_eq, ltl_eq]
  rw [ite_eqP (dcmp_zero hf)]
  unfold val
  by_cases c0 : mg x.toNat = 0
  · rw [if_pos c0, if_pos c0]
    obtain ⟨s, n, c, e, hb⟩ := valueOf_ok (x := 0) (Or.inl rfl)
    rw [e, Option.bind_some]
    exact ⟨s, n, c, rfl, hb.up (by omega)⟩
  · rw [if_neg c0, if_neg c0]
    obtain ⟨h0, h1⟩ := h
    have h2 := h1.resolve_left c0
    have hfr : fr x.toNat < 4503599627370496 := Nat.mod_lt _ (by decide)
    have hu := or52 hfr
    have hpos : (4503599627370496 ||| Ln (fr x.toNat)).toInt = ((4503599627370496 + fr x.toNat : Nat) : Int) := uL_toInt hu (by omega)
    have hk : nI (ex x.toNat) - 1075 + nI sc = nI (ex x.toNat + sc - 1075) := nI_sub_add (b := 1075) (by omega)
    rw [hk]
    have fin : ∀ z : Int64, z.toInt = (if x.toNat < 9223372036854775808 then 1 else -1) * ((4503599627370496 + fr x.toNat : Nat) : Int) →
        ∃ s n c, ((f_J16_valueOf z).bind fun o9 => (f_J16_shiftLeft o9.1 o9.2.1 o9.2.2 (nI (ex x.toNat + sc - 1075))).bind fun o19 => some (o19.1, o19.2.1, o19.2.2)) = some (s, n, c) ∧ Bg (3 + (sc - 35) / 32) ((if x.toNat < 9223372036854775808 then 1 else -1) * (((4503599627370496 + fr x.toNat) * 2 ^ (ex x.toNat + sc - 1075) : Nat) : Int)) s n c := by
      intro z hz
      obtain ⟨s, n, c, e, hb⟩ := valueOf_ok (x := z) (by
        rw [hz]
        split
        · right; left; omega
        · right; right; omega)
      rw [e, Option.bind_some]
      obtain ⟨s', n', c', e', hb'⟩ := shiftLeft_ok (k := ex x.toNat + sc - 1075) hb (by omega) (by omega)
      rw [e', Option.bind_some]
      refine ⟨s', n', c', rfl, ?_⟩
      rw [hz, Int.mul_assoc] at hb'
      have e3 : (((4503599627370496 + fr x.toNat) * 2 ^ (ex x.toNat + sc - 1075) : Nat) : Int) = ((4503599627370496 + fr x.toNat : Nat) : Int) * 2 ^ (ex x.toNat + sc - 1075) := by
        rw [Int.natCast_mul, Int.natCast_pow]; rfl
      rw [e3]
      exact hb'.up (by omega)
    have hsg : sg x.toNat = if x.toNat < 9223372036854775808 then 0 else 1 := by
      unfold sg
      split <;> omega
    by_cases cs : x.toNat < 9223372036854775808
    · rw [if_pos cs] at hsg fin
      rw [hsg, if_neg (by decide)]
      obtain ⟨s, n, c, e, hb⟩ := fin _ (by rw [hpos, Int.one_mul])
      rw [if_pos cs]
      exact ⟨s, n, c, e, hb⟩
    · rw [if_neg cs] at hsg fin
      rw [hsg, if_pos (by decide)]
      obtain ⟨s, n, c, e, hb⟩ := fin (-(4503599627370496 ||| Ln (fr x.toNat))) (by rw [neg_toInt (by rw [hpos]; omega), hpos]; omega)
      rw [if_neg cs]
      exact ⟨s, n, c, e, hb⟩
/-- sizes that the multiplication knows: two words or more -/
theorem val_big {n : Nat} (h : mid n) : val n 70 = 0 ∨ 4294967296 ≤ (val n 70).natAbs := by
  unfold val
  by_cases c : mg n = 0
  · rw [if_pos c]; exact Or.inl rfl
  · rw [if_neg c]
    right
    have h2 := h.2.resolve_left c
    have h3 : 1 ≤ 2 ^ (ex n + 70 - 1075) := Nat.pow_pos (by decide)
    have h4 := Nat.mul_le_mul_left (4503599627370496 + fr n) h3
    split <;> omega
theorem product_ok {x y : UInt64} (hx : mid x.toNat) (hy : mid y.toNat) : ∃ s n c, f_X1_product x y = some (s, n, c) ∧ Bg 8 (val x.toNat 70 * val y.toNat 70) s n c := by
  unfold f_X1_product
  obtain ⟨s, n, c, e, hb⟩ := exact_ok (sc := 70) hx (by decide)
  obtain ⟨s', n', c', e', hb'⟩ := exact_ok (sc := 70) hy (by decide)
  rw [show (nI 70) = 70 from rfl] at e e'
  rw [e, e', Option.bind_some, Option.bind_some]
  obtain ⟨s2, n2, c2, e2, hb2⟩ := multiply_ok hb hb' (by decide) (val_big hx) (val_big hy)
  rw [e2, Option.bind_some]
  exact ⟨s2, n2, c2, rfl, hb2⟩
theorem square_ok {x : UInt64} (hx : mid x.toNat) : ∃ s n c, f_X1_square x = some (s, n, c) ∧ Bg 8 (val x.toNat 70 * val x.toNat 70) s n c := by
  unfold f_X1_square
  obtain ⟨s, n, c, e, hb⟩ := exact_ok (sc := 70) hx (by decide)
  rw [show (nI 70) = 70 from rfl] at e
  rw [e, Option.bind_some]
  obtain ⟨s2, n2, c2, e2, hb2⟩ := multiply_ok hb hb (by decide) (val_big hx) (val_big hx)
  rw [e2, Option.bind_some]
  exact ⟨s2, n2, c2, rfl, hb2⟩
/-- whether two whole numbers lie that near: u units of 2^80 -/
abbrev near (p q : Int) (u : Nat) : Prop := (p - q).natAbs ≤ u * 2 ^ 80
theorem isNear_ok {x : UInt64} {N n u : Nat} {s : Int32} {c : Nat → Int32} {p : Int} (h : Bg N p s n c) (hN : N ≤ 9) (hx : mid x.toNat) (hu : 16 < u ∧ u < 2147483648) :
    f_X1_isNear s n c x (nI u) = some (decide (near p (val x.toNat 140) u)) := by
  unfold f_X1_isNear
  obtain ⟨s1, n1, c1, e1, h1⟩ := exact_ok (sc := 140) hx (by decide)
  rw [show (nI 140) = 140 from rfl] at e1
  rw [e1, Option.bind_some]
  obtain ⟨s2, n2, c2, e2, h2⟩ := subt_ok h h1 (by omega) (by omega)
  rw [e2, Option.bind_some]
  obtain ⟨s3, e3, h3⟩ := abs_ok h2 (by omega)
  rw [e3, Option.bind_some, ltl_eq]
  have hz : (nI u).toInt64.toInt = (u : Int) := by rw [Int32.toInt_toInt64, nI_toInt hu.2]
  obtain ⟨s4, n4, c4, e4, h4⟩ := valueOf_ok (x := (nI u).toInt64) (by rw [hz]; right; left; omega)
  rw [e4, Option.bind_some]
  obtain ⟨s5, n5, c5, e5, h5⟩ := shiftLeft_ok (k := 80) h4 (by decide) (by decide)
  rw [show (nI 80) = 80 from rfl] at e5
  rw [e5, Option.bind_some]
  have e6 := compareTo_ok h3 h5 (by omega) (by decide)
  rw [e6, Option.bind_some, hz]
  have e7 : ((u : Int) * 2 ^ 80) = ((u * 2 ^ 80 : Nat) : Int) := by rw [Int.natCast_mul]; rfl
  rw [e7]
  have key : ∀ d m : Nat, (if (0 : Int32) < (if (d : Int) < m then (-1 : Int32) else if (d : Int) = m then 0 else 1) then some false else some true) = some (decide (d ≤ m)) := by
    intro d m
    rcases Nat.lt_trichotomy d m with q | q | q
    · rw [if_pos (show (d : Int) < m by omega), if_neg (by decide), decide_eq_true (by omega)]
    · rw [if_neg (show ¬ (d : Int) < m by omega), if_pos (show (d : Int) = m by omega), if_neg (by decide), decide_eq_true (by omega)]
    · rw [if_neg (show ¬ (d : Int) < m by omega), if_neg (show ¬ (d : Int) = m by omega), if_pos (by decide), decide_eq_false (by omega)]
  exact key _ _
theorem roundBy_ok {x y : UInt64} (hx : mid x.toNat) (hy : mid y.toNat) : f_X1_isRoundBy x y = some (decide (near (val x.toNat 70 * val x.toNat 70 + val y.toNat 70 * val y.toNat 70) (2 ^ 140) 240)) := by
  unfold f_X1_isRoundBy
  obtain ⟨s, n, c, e, hb⟩ := square_ok hx
  obtain ⟨s', n', c', e', hb'⟩ := square_ok hy
  rw [e, e', Option.bind_some, Option.bind_some]
  obtain ⟨s2, n2, c2, e2, h2⟩ := sum_ok hb hb' (by decide) (by decide)
  rw [e2, Option.bind_some]
  have := isNear_ok (x := 4607182418800017408) (u := 240) h2 (by decide) (by unfold mid; decide) (by decide)
  rw [show (nI 240) = 240 from rfl] at this
  rw [this, Option.bind_some]
  have hv : val (4607182418800017408 : UInt64).toNat 140 = 2 ^ 140 := by decide
  rw [hv]
theorem slopeBy_ok {x y z : UInt64} (hx : mid x.toNat) (hy : mid y.toNat) (hz : mid z.toNat) : f_X1_isSlopeBy x y z = some (decide (near (val z.toNat 70 * val y.toNat 70) (val x.toNat 140) 241)) := by
  unfold f_X1_isSlopeBy
  obtain ⟨s, n, c, e, hb⟩ := product_ok hz hy
  rw [e, Option.bind_some]
  have := isNear_ok (x := x) (u := 241) hb (by decide) hx (by decide)
  rw [show (nI 241) = 241 from rfl] at this
  rw [this, Option.bind_some]
theorem twiceBy0_ok {y s c t : UInt64} (hs : mid s.toNat) (hc : mid c.toNat) (ht : mid t.toNat) (e0 : f_J6_sin y = some t) : f_X1_isTwiceBy 0 y s c = some (decide (near (val s.toNat 70 * val c.toNat 70 * 2) (val t.toNat 140) 265)) := by
  unfold f_X1_isTwiceBy
  rw [if_pos rfl]
  obtain ⟨s1, n1, c1, e, hb⟩ := product_ok hs hc
  rw [e, Option.bind_some]
  obtain ⟨s2, n2, c2, e2, h2⟩ := shiftLeft_ok (k := 1) hb (by decide) (by decide)
  rw [show (nI 1) = 1 from rfl] at e2
  rw [e2, Option.bind_some, e0, Option.bind_some]
  have := isNear_ok (x := t) (u := 265) h2 (by decide) ht (by decide)
  rw [show (nI 265) = 265 from rfl] at this
  rw [this, Option.bind_some]
  rfl
theorem twiceBy1_ok {y s c t : UInt64} (hs : mid s.toNat) (hc : mid c.toNat) (ht : mid t.toNat) (e0 : f_J6_cos y = some t) : f_X1_isTwiceBy 1 y s c = some (decide (near (val c.toNat 70 * val c.toNat 70 - val s.toNat 70 * val s.toNat 70) (val t.toNat 140) 240)) := by
  unfold f_X1_isTwiceBy
  rw [if_neg (by decide)]
  obtain ⟨s1, n1, c1, e, hb⟩ := square_ok hc
  obtain ⟨s1', n1', c1', e', hb'⟩ := square_ok hs
  rw [e, e', Option.bind_some, Option.bind_some]
  obtain ⟨s2, n2, c2, e2, h2⟩ := subt_ok hb hb' (by decide) (by decide)
  rw [e2, Option.bind_some, e0, Option.bind_some]
  have := isNear_ok (x := t) (u := 240) h2 (by decide) ht (by decide)
  rw [show (nI 240) = 240 from rfl] at this
  rw [this, Option.bind_some]
theorem stepBy0_ok {y s c t a b : UInt64} (hs : mid s.toNat) (hc : mid c.toNat) (ht : mid t.toNat) (ha : mid a.toNat) (hb : mid b.toNat) (ea : f_J6_sin 4593671619917905920 = some a) (eb : f_J6_cos 4593671619917905920 = some b) (e0 : f_J6_sin y = some t) :
    f_X1_isStepBy 0 y s c = some (decide (near (val s.toNat 70 * val b.toNat 70 + val c.toNat 70 * val a.toNat 70) (val t.toNat 140) 201)) := by
  unfold f_X1_isStepBy
  rw [ea, eb, Option.bind_some, Option.bind_some, if_pos rfl]
  obtain ⟨s1, n1, c1, e, h1⟩ := product_ok hs hb
  obtain ⟨s1', n1', c1', e', h1'⟩ := product_ok hc ha
  rw [e, e', Option.bind_some, Option.bind_some]
  obtain ⟨s2, n2, c2, e2, h2⟩ := sum_ok h1 h1' (by decide) (by decide)
  rw [e2, Option.bind_some, e0, Option.bind_some]
  have := isNear_ok (x := t) (u := 201) h2 (by decide) ht (by decide)
  rw [show (nI 201) = 201 from rfl] at this
  rw [this, Option.bind_some]
theorem stepBy1_ok {y s c t a b : UInt64} (hs : mid s.toNat) (hc : mid c.toNat) (ht : mid t.toNat) (ha : mid a.toNat) (hb : mid b.toNat) (ea : f_J6_sin 4593671619917905920 = some a) (eb : f_J6_cos 4593671619917905920 = some b) (e0 : f_J6_cos y = some t) :
    f_X1_isStepBy 1 y s c = some (decide (near (val c.toNat 70 * val b.toNat 70 - val s.toNat 70 * val a.toNat 70) (val t.toNat 140) 216)) := by
  unfold f_X1_isStepBy
  rw [ea, eb, Option.bind_some, Option.bind_some, if_neg (by decide)]
  obtain ⟨s1, n1, c1, e, h1⟩ := product_ok hc hb
  obtain ⟨s1', n1', c1', e', h1'⟩ := product_ok hs ha
  rw [e, e', Option.bind_some, Option.bind_some]
  obtain ⟨s2, n2, c2, e2, h2⟩ := subt_ok h1 h1' (by decide) (by decide)
  rw [e2, Option.bind_some, e0, Option.bind_some]
  have := isNear_ok (x := t) (u := 216) h2 (by decide) ht (by decide)
  rw [show (nI 216) = 216 from rfl] at this
  rw [this, Option.bind_some]
theorem ck_in {α : Type} {v : UInt64} {k : UInt64 → Option α} (h : okN v.toNat = true) : ck v k = k v := by
  unfold ck
  rw [frc_eq, b_rec, if_pos h, UInt64.ofNat_toNat]
theorem okN_fin {n : Nat} (h : dfin n) : okN n = true := by
  unfold okN
  have h2 : n % 9223372036854775808 < 9218868437227405312 := h
  exact Nat.ble_eq.mpr (show n % 9223372036854775808 ≤ 9218868437227405312 by omega)
/-- the other sign -/
def ng (n : Nat) : Nat := (n + 9223372036854775808) % 18446744073709551616
theorem mg_ng (n : Nat) : mg (ng n) = mg n := by unfold mg ng; omega
theorem ex_ng (n : Nat) : ex (ng n) = ex n := by unfold ex ng; omega
theorem fr_ng (n : Nat) : fr (ng n) = fr n := by unfold fr ng; omega
theorem dfin_ng {n : Nat} (h : dfin n) : dfin (ng n) := by unfold dfin ng at *; omega
theorem mid_ng {n : Nat} (h : mid n) : mid (ng n) := by
  obtain ⟨h0, h1⟩ := h
  refine ⟨by unfold ng; omega, ?_⟩
  rw [mg_ng, ex_ng]
  exact h1
theorem ng_lt (n : Nat) : ng n < 18446744073709551616 := by unfold ng; omega
theorem val_ng {n sc : Nat} (h : n < 18446744073709551616) : val (ng n) sc = -val n sc := by
  unfold val
  rw [mg_ng, ex_ng, fr_ng]
  by_cases c : mg n = 0
  · rw [if_pos c, if_pos c]; rfl
  · rw [if_neg c, if_neg c]
    unfold ng
    split <;> split <;> omega
theorem inside_ok {x : UInt64} {b : Bool} (h : dfin x.toNat) : f_X1_isInside x b = some (decide (-4607182418800017408 ≤ dkey x.toNat ∧ dkey x.toNat ≤ 4607182418800017408 ∧ ((dkey x.toNat = -4607182418800017408 ∨ dkey x.toNat = 4607182418800017408) ↔ b = true))) := by
  unfold f_X1_isInside
  simp only [lt_eq, lti_eq]
  have f1 : dfin (13830554455654793216 : UInt64).toNat := by unfold dfin; decide
  have f2 : dfin (4607182418800017408 : UInt64).toNat := by unfold dfin; decide
  have k1 : dkey (13830554455654793216 : UInt64).toNat = -4607182418800017408 := by decide
  have k2 : dkey (4607182418800017408 : UInt64).toNat = 4607182418800017408 := by decide
  rw [dcmpF_fin h f1, dcmpF_fin h f2, dcmpF_fin h f2, ordI_cmp, ordI_cmp, k1, k2]
  obtain ⟨k, hk⟩ : ∃ k, k = dkey x.toNat := ⟨_, rfl⟩
  rw [← hk]
  have z0 : ∀ a b : Int, (cmp3 a b = 0) = (a = b) := by
    intro a b
    unfold cmp3
    simp only [eq_iff_iff]
    split
    · exact ⟨fun z => absurd z (by decide), fun z => by omega⟩
    · split
      · exact ⟨fun _ => by assumption, fun _ => rfl⟩
      · exact ⟨fun z => absurd z (by decide), fun z => by omega⟩
  have zl : ∀ a b : Int, (cmp3 a b < 0) = (a < b) := by
    intro a b
    unfold cmp3
    simp only [eq_iff_iff]
    split
    · exact ⟨fun _ => by assumption, fun _ => by decide⟩
    · split
      · exact ⟨fun z => absurd z (by decide), fun z => by omega⟩
      · exact ⟨fun z => absurd z (by decide), fun z => by omega⟩
  have zg : ∀ a b : Int, (0 < cmp3 a b) = (b < a) := by
    intro a b
    unfold cmp3
    simp only [eq_iff_iff]
    split
    · exact ⟨fun z => absurd z (by decide), fun z => by omega⟩
    · split
      · exact ⟨fun z => absurd z (by decide), fun z => by omega⟩
      · exact ⟨fun _ => by omega, fun _ => by decide⟩
  have tail : ∀ e : Bool, (if k < -4607182418800017408 then some false else if 4607182418800017408 < k then some false else if bI e = bI b then some true else some false) = some (decide (-4607182418800017408 ≤ k ∧ k ≤ 4607182418800017408 ∧ (e = true ↔ b = true))) := by
    intro e
    by_cases c1 : k < -4607182418800017408
    · rw [if_pos c1, decide_eq_false (by omega)]
    · rw [if_neg c1]
      by_cases c2 : 4607182418800017408 < k
      · rw [if_pos c2, decide_eq_false (by omega)]
      · rw [if_neg c2]
        cases e <;> cases b
        · rw [if_pos rfl, decide_eq_true ⟨by omega, by omega, Iff.rfl⟩]
        · rw [if_neg (by decide), decide_eq_false (fun z => by have := z.2.2; simp at this)]
        · rw [if_neg (by decide), decide_eq_false (fun z => by have := z.2.2; simp at this)]
        · rw [if_pos rfl, decide_eq_true ⟨by omega, by omega, Iff.rfl⟩]
  rw [ite_eqP (z0 k (-4607182418800017408)), ite_eqP (z0 k 4607182418800017408)]
  simp only [ite_eqP (zl k (-4607182418800017408)), ite_eqP (zg k 4607182418800017408)]
  rw [tail true, tail false]
  by_cases c1 : k = -4607182418800017408
  · rw [if_pos c1]
    exact congrArg some (decide_eq_decide.mpr (by simp [c1]))
  · rw [if_neg c1]
    by_cases c2 : k = 4607182418800017408
    · rw [if_pos c2]
      exact congrArg some (decide_eq_decide.mpr (by simp [c2]))
    · rw [if_neg c2]
      exact congrArg some (decide_eq_decide.mpr (by simp [c1, c2]))
theorem mirror1_ok {y z : UInt64} (hy : dfin y.toNat) (hz : dfin z.toNat) : f_X1_isMirror 1 y z = some (decide (y = z)) := by
  unfold f_X1_isMirror
  rw [digitsOf_ok hy, digitsOf_ok hz]
  simp only [Option.bind_some, lt_eq, lti_eq]
  rw [if_pos trivial, ite_eqP (((lcmp_eq0 _ _).trans (Ln_inj y.toNat_lt z.toNat_lt)).trans (propext UInt64.toNat_inj))]
  by_cases c : y = z
  · rw [if_pos c, decide_eq_true c]
  · rw [if_neg c, decide_eq_false c]
theorem bit_and {m : Nat} (h : m < 9223372036854775808) (i : Nat) : ((2 ^ 63 : Nat).testBit i && m.testBit i) = false := by
  rw [Nat.testBit_two_pow]
  by_cases c : 63 = i
  · subst c
    rw [Nat.testBit_lt_two_pow h, Bool.and_false]
  · rw [decide_eq_false c, Bool.false_and]
theorem xor63 {n : Nat} (h : n < 18446744073709551616) : n ^^^ 9223372036854775808 = ng n := by
  unfold ng
  have hx : ∀ m, m < 9223372036854775808 → m ^^^ 9223372036854775808 = 9223372036854775808 + m ∧ (9223372036854775808 + m) ^^^ 9223372036854775808 = m := by
    intro m hm
    have h2 := nat_or_add (a := 1) (b := m) (r := 63) hm
    rw [Nat.one_mul] at h2
    have h4 : m ^^^ 2 ^ 63 = 2 ^ 63 ||| m := by
      apply Nat.eq_of_testBit_eq
      intro i
      have h5 := bit_and hm i
      rw [Nat.testBit_xor, Nat.testBit_or]
      cases ha : (2 ^ 63 : Nat).testBit i <;> cases hb : m.testBit i <;> simp_all
    have h6 : (2 ^ 63 ||| m) ^^^ 2 ^ 63 = m := by
      apply Nat.eq_of_testBit_eq
      intro i
      have h5 := bit_and hm i
      rw [Nat.testBit_xor, Nat.testBit_or]
      cases ha : (2 ^ 63 : Nat).testBit i <;> cases hb : m.testBit i <;> simp_all
    rw [show (9223372036854775808 : Nat) = 2 ^ 63 by decide]
    exact ⟨by rw [h4, h2], by rw [← h2, h6]⟩
  by_cases c : n < 9223372036854775808
  · rw [(hx n c).1]; omega
  · obtain ⟨m, hm, rfl⟩ : ∃ m, m < 9223372036854775808 ∧ n = 9223372036854775808 + m := ⟨n - 9223372036854775808, by omega, by omega⟩
    rw [(hx m hm).2]; omega
theorem mirror_ok {w : Int32} {y z : UInt64} (hw : w ≠ 1) (hy : dfin y.toNat) (hz : dfin z.toNat) : f_X1_isMirror w y z = some (decide (y.toNat = ng z.toNat)) := by
  unfold f_X1_isMirror
  rw [digitsOf_ok hy, digitsOf_ok hz]
  simp only [Option.bind_some, lt_eq, lti_eq, ltl_eq]
  have e : Ln z.toNat ^^^ (-9223372036854775808) = Ln (ng z.toNat) := by
    apply Ln_of
    unfold uL
    rw [Int64.toUInt64_xor, UInt64.toNat_xor]
    have e1 : (Ln z.toNat).toUInt64.toNat = z.toNat := uL_Ln z.toNat_lt
    have e2 : ((-9223372036854775808 : Int64)).toUInt64.toNat = 9223372036854775808 := by decide
    rw [e1, e2, xor63 z.toNat_lt]
  rw [if_neg hw, e, ite_eqP ((lcmp_eq0 _ _).trans (Ln_inj y.toNat_lt (ng_lt _)))]
  by_cases c : y.toNat = ng z.toNat
  · rw [if_pos c, decide_eq_true c]
  · rw [if_neg c, decide_eq_false c]
theorem dneg_nat {x : UInt64} (h : dfin x.toNat) : (FP.dneg x).toNat = (x.toNat + 9223372036854775808) % 18446744073709551616 := by
  have e : (FP.dneg x).toNat = x.toNat ^^^ 9223372036854775808 := by
    unfold FP.dneg
    rw [UInt64.toNat_xor]; rfl
  rw [e, xor63 x.toNat_lt]; rfl
/-- all laws hold at x: out of what the library answers, and of what whole numbers say of it -/
theorem lawful_ok {x s c t s' c' t' y2 : UInt64} {b2 b3 : Bool} (hx : dfin x.toNat) (es : f_J6_sin x = some s) (ec : f_J6_cos x = some c) (et : f_J6_tan x = some t) (hs : mid s.toNat) (hc : mid c.toNat) (ht : mid t.toNat)
    (eset : f_X1_isInSet x = some true) (ins : f_X1_isInside s false = some true) (inc : f_X1_isInside c (decide (mg x.toNat = 0)) = some true)
    (ms : f_J6_sin (FP.dneg x) = some s') (hs' : s'.toNat = ng s.toNat) (mc : f_J6_cos (FP.dneg x) = some c) (mt : f_J6_tan (FP.dneg x) = some t') (ht' : t'.toNat = ng t.toNat)
    (hr : near (val s.toNat 70 * val s.toNat 70 + val c.toNat 70 * val c.toNat 70) (2 ^ 140) 240) (hsl : near (val t.toNat 70 * val c.toNat 70) (val s.toNat 140) 241)
    (e2 : dmulF 4611686018427387904 x = y2) (ok2 : okN y2.toNat = true) (set2 : f_X1_isInSet y2 = some b2)
    (tw : b2 = true → ∃ s2 c2 : UInt64, f_J6_sin y2 = some s2 ∧ f_J6_cos y2 = some c2 ∧ mid s2.toNat ∧ mid c2.toNat ∧ near (val s.toNat 70 * val c.toNat 70 * 2) (val s2.toNat 140) 265 ∧ near (val c.toNat 70 * val c.toNat 70 - val s.toNat 70 * val s.toNat 70) (val c2.toNat 140) 240)
    (st : f_X1_isStep x = some b3)
    (stp : b3 = true → ∃ y3 s3 c3 a b : UInt64, daddF x 4593671619917905920 = y3 ∧ okN y3.toNat = true ∧ f_J6_sin y3 = some s3 ∧ f_J6_cos y3 = some c3 ∧ mid s3.toNat ∧ mid c3.toNat ∧ f_J6_sin 4593671619917905920 = some a ∧ f_J6_cos 4593671619917905920 = some b ∧ mid a.toNat ∧ mid b.toNat ∧
      near (val s.toNat 70 * val b.toNat 70 + val c.toNat 70 * val a.toNat 70) (val s3.toNat 140) 201 ∧ near (val c.toNat 70 * val b.toNat 70 - val s.toNat 70 * val a.toNat 70) (val c3.toNat 140) 216) :
    f_X1_isLawful x = some true := by
  unfold f_X1_isLawful
  simp only [lt_eq, lti_eq, ltd_eq]
  have hns' : dfin s'.toNat := by rw [hs']; exact dfin_ng hs.fin
  have hnt' : dfin t'.toNat := by rw [ht']; exact dfin_ng ht.fin
  have m1 : f_X1_isMirror 0 s' s = some true := by rw [mirror_ok (by decide) hns' hs.fin, decide_eq_true hs']
  have m2 : f_X1_isMirror 1 c c = some true := by rw [mirror1_ok hc.fin hc.fin, decide_eq_true rfl]
  have m3 : f_X1_isMirror 2 t' t = some true := by rw [mirror_ok (by decide) hnt' ht.fin, decide_eq_true ht']
  have r1 : f_X1_isRoundBy s c = some true := by rw [roundBy_ok hs hc, decide_eq_true hr]
  have r2 : f_X1_isSlopeBy s c t = some true := by rw [slopeBy_ok hs hc ht, decide_eq_true hsl]
  have h0 : dfin (0 : UInt64).toNat := by unfold dfin; decide
  have k0 : dkey (0 : UInt64).toNat = 0 := rfl
  have z0 : (dcmpF x 0 .l = 0) = (mg x.toNat = 0) := by
    rw [dcmpF_fin hx h0, ordI_cmp, k0]
    have hx2 := x.toNat_lt
    have hk : (dkey x.toNat = 0) = (mg x.toNat = 0) := by
      unfold dkey mg
      simp only [eq_iff_iff]
      split <;> omega
    rw [← hk]
    unfold cmp3
    simp only [eq_iff_iff]
    by_cases c1 : dkey x.toNat < 0
    · rw [if_pos c1]; exact ⟨fun z => absurd z (by decide), fun z => by omega⟩
    · rw [if_neg c1]
      by_cases c2 : dkey x.toNat = 0
      · rw [if_pos c2]; exact ⟨fun _ => c2, fun _ => rfl⟩
      · rw [if_neg c2]; exact ⟨fun z => absurd z (by decide), fun z => absurd z c2⟩
  have ck2 : ∀ k : UInt64 → Option Bool, ck y2 k = k y2 := fun k => ck_in ok2
  -- the end: doubled angles, then steps
  have step : ∀ v13 : Bool, v13 = true → (if b3 = true then (if v13 = true then ck (daddF x 4593671619917905920) fun v18 => (f_X1_isStepBy 0 v18 s c).bind fun o19 => (if o19 = true then ck (daddF x 4593671619917905920) fun v21 => (f_X1_isStepBy 1 v21 s c).bind fun o22 => (if o22 = true then some true else some false) else some false) else some false) else some v13) = some true := by
    intro v hv
    subst hv
    cases b3 with
    | false => rw [if_neg (by decide)]
    | true =>
      obtain ⟨y3, s3, c3, a, b, e3, ok3, q1, q2, q3, q4, q5, q6, q7, q8, n1, n2⟩ := stp rfl
      have p1 := stepBy0_ok hs hc q3 q7 q8 q5 q6 q1
      have p2 := stepBy1_ok hs hc q4 q7 q8 q5 q6 q2
      rw [decide_eq_true n1] at p1
      rw [decide_eq_true n2] at p2
      rw [if_pos rfl, if_pos rfl, e3, ck_in ok3, p1, Option.bind_some, if_pos rfl, ck_in ok3, p2, Option.bind_some, if_pos rfl]
  simp only [es, ec, et, eset, Option.bind_some, if_true, ins, ms, m1, mc, m2, mt, m3, r1, r2, e2, ck2, set2, st]
  have twice : ∀ G : Bool → Option Bool, G true = some true → (if b2 = true then (f_X1_isTwiceBy 0 y2 s c).bind fun o30 => (if o30 = true then (f_X1_isTwiceBy 1 y2 s c).bind fun o33 => (if o33 = true then G true else G false) else G false) else G true) = some true := by
    intro G hG
    cases b2 with
    | false => rw [if_neg (by decide)]; exact hG
    | true =>
      obtain ⟨s2, c2, q1, q2, q3, q4, n1, n2⟩ := tw rfl
      have p1 := twiceBy0_ok hs hc q3 q1
      have p2 := twiceBy1_ok hs hc q4 q2
      rw [decide_eq_true n1] at p1
      rw [decide_eq_true n2] at p2
      rw [if_pos rfl, p1, Option.bind_some, if_pos rfl, p2, Option.bind_some, if_pos rfl]
      exact hG
  rw [ite_eqP z0]
  by_cases cz : mg x.toNat = 0
  · rw [decide_eq_true cz] at inc
    rw [if_pos cz, inc, Option.bind_some, if_pos rfl]
    exact twice (fun v13 => if b3 = true then (if v13 = true then ck (daddF x 4593671619917905920) fun v18 => (f_X1_isStepBy 0 v18 s c).bind fun o19 => (if o19 = true then ck (daddF x 4593671619917905920) fun v21 => (f_X1_isStepBy 1 v21 s c).bind fun o22 => (if o22 = true then some true else some false) else some false) else some false) else some v13) (step true rfl)
  · rw [decide_eq_false cz] at inc
    rw [if_neg cz, inc, Option.bind_some, if_pos rfl]
    exact twice (fun v13 => if b3 = true then (if v13 = true then ck (daddF x 4593671619917905920) fun v18 => (f_X1_isStepBy 0 v18 s c).bind fun o19 => (if o19 = true then ck (daddF x 4593671619917905920) fun v21 => (f_X1_isStepBy 1 v21 s c).bind fun o22 => (if o22 = true then some true else some false) else some false) else some false) else some v13) (step true rfl)
theorem isIn_ok {a b k : Nat} (hb : b < 2147483648) (ha : a < 2147483648) (hk : k < 2147483648) : f_X1_isIn (nI k) (nI a) (nI b) = some (decide (a ≤ k ∧ k ≤ b)) := by
  unfold f_X1_isIn
  rw [ite_ltI hk ha, ite_ltI hb hk]
  by_cases c1 : k < a
  · rw [if_pos c1, decide_eq_false (by omega)]
  · rw [if_neg c1]
    by_cases c2 : b < k
    · rw [if_pos c2, decide_eq_false (by omega)]
    · rw [if_neg c2, decide_eq_true (by omega)]
theorem mustBeCell_ok {i : Nat} (h : i < 8) : f_X1_mustBeCell (nI i) = some () := by
  unfold f_X1_mustBeCell
  have := isIn_ok (a := 0) (b := 7) (k := i) (by decide) (by decide) (by omega)
  rw [show nI 0 = 0 from rfl, show nI 7 = 7 from rfl] at this
  rw [this, Option.bind_some, decide_eq_true (by omega), if_pos rfl]
theorem toInt_shr (v : Int64) {k : Nat} (hk : k < 64) : (v >>> ((nI k).toInt64 &&& 63)).toInt = v.toInt / 2 ^ k := by
  show (v >>> ((nI k).toInt64 &&& 63)).toBitVec.toInt = _
  rw [Int64.toBitVec_shiftRight]
  have : ∀ k : Fin 64, ((nI k).toInt64 &&& 63).toBitVec.smod 64 = BitVec.ofNat 64 k := by decide
  rw [this ⟨k, hk⟩, BitVec.sshiftRight', BitVec.toInt_sshiftRight, Int.shiftRight_eq_div_pow, BitVec.toNat_ofNat, Nat.mod_eq_of_lt (by omega)]
  have e : ((2 ^ k : Nat) : Int) = (2 : Int) ^ k := by rw [Int.natCast_pow]; rfl
  rw [e]; rfl
section
variable {a h : Nat → UInt64} {w : Nat → Int32} {f3 f4 f5 f6 : Int32}
theorem heightAt_ok {i : Nat} (hi : i < 8) : f_X1_heightAt a h w f3 f4 f5 f6 (nI i) = some (h i) := by
  unfold f_X1_heightAt
  rw [mustBeCell_ok hi, Option.bind_some, gd_in rfl hi (by decide), ltd_eq]
theorem angleAt_ok {i : Nat} (hi : i < 8) : f_X1_angleAt a h w f3 f4 f5 f6 (nI i) = some (a i) := by
  unfold f_X1_angleAt
  rw [mustBeCell_ok hi, Option.bind_some, gd_in rfl hi (by decide), ltd_eq]
theorem whole_ok {i : Nat} (hi : i < 8) (hm : mid (h i).toNat) : f_X1_whole a h w f3 f4 f5 f6 (nI i) = some (iw (val (h i).toNat 70 / 2 ^ 70)) := by
  unfold f_X1_whole
  rw [heightAt_ok hi, Option.bind_some]
  obtain ⟨s, n, c, e, hb⟩ := exact_ok (sc := 70) hm (by decide)
  rw [show nI 70 = 70 from rfl] at e
  rw [e, Option.bind_some]
  have := rv_ok (k := 70) (K := fun p => some p) (r := iw (val (h i).toNat 70 / 2 ^ 70)) hb (by decide) (by decide) (by decide) rfl
  rw [show nI 70 = 70 from rfl] at this
  exact this
theorem and_low (x : Int32) {d : Nat} (hd : d ≤ 30) : x &&& ((1 : Int32) <<< (nI d &&& 31) - 1) = nI (wd x % 2 ^ d) := by
  have hp : 0 < 2 ^ d := Nat.pow_pos (by decide)
  have hp2 : 2 ^ d ≤ 2 ^ 30 := Nat.pow_le_pow_right (by decide) hd
  have hp3 : (2 : Nat) ^ 30 = 1073741824 := by decide
  apply wd_inj
  have e1 : wd ((1 : Int32) <<< (nI d &&& 31) - 1) = 2 ^ d - 1 := by
    have e0 : wd ((1 : Int32) <<< (nI d &&& 31)) = 2 ^ d := by
      rw [wd_shl 1 (by omega), show wd 1 = 1 from rfl, Nat.one_mul]; omega
    rw [wd_s1, e0]; omega
  have e2 : wd (x &&& ((1 : Int32) <<< (nI d &&& 31) - 1)) = wd x &&& wd ((1 : Int32) <<< (nI d &&& 31) - 1) := by
    unfold wd; rw [Int32.toUInt32_and, UInt32.toNat_and]
  have h3 := Nat.mod_lt (wd x) hp
  rw [e2, e1, Nat.and_two_pow_sub_one_eq_mod, wd_nI (by omega)]
/-- a height's first d digits behind the point -/
def stp (n d : Nat) : Nat := (val n 70 / 2 ^ (70 - d) % 2 ^ d).toNat
theorem stp_lt (n d : Nat) : stp n d < 2 ^ d := by
  unfold stp
  have hp : (0 : Int) < 2 ^ d := Int.pow_pos (by decide)
  have h1 := Int.emod_nonneg (val n 70 / 2 ^ (70 - d)) (show (2 : Int) ^ d ≠ 0 by omega)
  have h2 := Int.emod_lt_of_pos (val n 70 / 2 ^ (70 - d)) hp
  have h3 : ((2 ^ d : Nat) : Int) = (2 : Int) ^ d := by rw [Int.natCast_pow]; rfl
  omega
theorem wd_iw_mod (v : Int) {d : Nat} (hd : d ≤ 30) : wd (iw v) % 2 ^ d = (v % 2 ^ d).toNat := by
  have h1 := wd_iw v
  have hp : (0 : Int) < 2 ^ d := Int.pow_pos (by decide)
  have h3 : ((2 ^ d : Nat) : Int) = (2 : Int) ^ d := by rw [Int.natCast_pow]; rfl
  have h4 : ((wd (iw v) % 2 ^ d : Nat) : Int) = v % 2 ^ d := by
    rw [Int.natCast_emod, h1, h3]
    refine Int.emod_emod_of_dvd _ ?_
    refine ⟨2 ^ (32 - d), ?_⟩
    rw [← Int.pow_add, show d + (32 - d) = 32 by omega]; rfl
  omega
theorem steps_ok {i d : Nat} (hi : i < 8) (hm : mid (h i).toNat) (hd : d ≤ 30) : f_X1_steps a h w f3 f4 f5 f6 (nI i) (nI d) = some (nI (stp (h i).toNat d)) := by
  unfold f_X1_steps f_X1_mustFit
  rw [heightAt_ok hi, Option.bind_some]
  have hin := isIn_ok (a := 0) (b := 30) (k := d) (by decide) (by decide) (by omega)
  rw [show nI 0 = 0 from rfl, show nI 30 = 30 from rfl] at hin
  rw [hin, Option.bind_some, decide_eq_true (by omega), if_pos rfl, Option.bind_some]
  obtain ⟨s, n, c, e, hb⟩ := exact_ok (sc := 70) hm (by decide)
  rw [show nI 70 = 70 from rfl] at e
  rw [e, Option.bind_some]
  simp only [lti_eq]
  rw [show (70 : Int32) - nI d = nI (70 - d) from nI_sub (a := 70) (by omega)]
  have := rv_ok (k := 70 - d) (K := fun p => some (p &&& ((1 : Int32) <<< (nI d &&& 31) - 1))) (r := nI (stp (h i).toNat d)) hb (by decide) (by omega) (by omega) (by
    rw [and_low _ hd, wd_iw_mod _ hd]; rfl)
  exact this
/-- what the law calls told: the greatest whole number of steps of 2^-30 that isn't above the height -/
def tl (n : Nat) : Int := val n 70 / 2 ^ 40
theorem emod_ediv {A : Int} {p q : Int} (hp : 0 < p) (hq : 0 < q) : A % (p * q) / p = A / p % q := by
  have h1 := Int.emod_nonneg A (show p * q ≠ 0 from Int.mul_ne_zero (by omega) (by omega))
  have h2 := Int.emod_lt_of_pos A (Int.mul_pos hp hq)
  have h3 := Int.emod_add_mul_ediv A (p * q)
  obtain ⟨r, hr⟩ : ∃ r, r = A % (p * q) := ⟨_, rfl⟩
  obtain ⟨k, hk⟩ : ∃ k, k = A / (p * q) := ⟨_, rfl⟩
  rw [← hr, ← hk] at h3
  rw [← hr] at h1 h2 ⊢
  have h4 : A / p = r / p + q * k := by
    rw [← h3, Int.mul_assoc, Int.add_mul_ediv_left _ _ (by omega)]
  have h5 : 0 ≤ r / p := Int.ediv_nonneg h1 (by omega)
  have h6 : r / p < q := Int.ediv_lt_of_lt_mul hp (by rw [Int.mul_comm]; exact h2)
  rw [h4, Int.add_mul_emod_self_left, Int.emod_eq_of_lt h5 h6]
theorem pow_split (a b : Nat) : (2 : Int) ^ (a + b) = 2 ^ a * 2 ^ b := Int.pow_add 2 a b
theorem stp_shift (n : Nat) {d : Nat} (hd : d ≤ 30) : stp n 30 / 2 ^ (30 - d) = stp n d := by
  have h3 : ∀ k : Nat, ((2 ^ k : Nat) : Int) = (2 : Int) ^ k := fun k => by rw [Int.natCast_pow]; rfl
  have hp : ∀ k : Nat, (0 : Int) < 2 ^ k := fun k => Int.pow_pos (by decide)
  have e1 : ((stp n 30 : Nat) : Int) = val n 70 / 2 ^ 40 % 2 ^ 30 := by
    unfold stp
    have := Int.emod_nonneg (val n 70 / 2 ^ (70 - 30)) (show (2 : Int) ^ 30 ≠ 0 by decide)
    omega
  have e2 : ((stp n d : Nat) : Int) = val n 70 / 2 ^ (70 - d) % 2 ^ d := by
    unfold stp
    have := Int.emod_nonneg (val n 70 / 2 ^ (70 - d)) (show (2 : Int) ^ d ≠ 0 by have := hp d; omega)
    omega
  have e3 : ((stp n 30 / 2 ^ (30 - d) : Nat) : Int) = ((stp n d : Nat) : Int) := by
    rw [Int.natCast_ediv, e1, e2, h3, show (2 : Int) ^ 30 = 2 ^ (30 - d) * 2 ^ d by rw [← pow_split, show 30 - d + d = 30 by omega], emod_ediv (hp _) (hp _), Int.ediv_ediv_of_nonneg (by have := hp 40; omega), ← pow_split, show 40 + (30 - d) = 70 - d by omega]
  omega
/-- a long of a whole number -/
def Li (z : Int) : Int64 := Int64.ofInt z
theorem Li_toInt {z : Int} (h1 : -9223372036854775808 ≤ z) (h2 : z < 9223372036854775808) : (Li z).toInt = z := by
  unfold Li
  rw [Int64.toInt_ofInt]
  exact bmod_small h1 h2
theorem Li_of {x : Int64} {z : Int} (h : x.toInt = z) : x = Li z := by
  subst h
  unfold Li
  simp
theorem val_bound {n : Nat} (h : mid n) : (val n 70).natAbs < 2 ^ 88 := by
  unfold val
  by_cases c : mg n = 0
  · rw [if_pos c]; decide
  · rw [if_neg c]
    have h2 := h.2.resolve_left c
    have hf : fr n < 4503599627370496 := Nat.mod_lt _ (by decide)
    have h3 : 2 ^ (ex n + 70 - 1075) ≤ 2 ^ 35 := Nat.pow_le_pow_right (by decide) (by omega)
    have h4 := Nat.mul_le_mul (show 4503599627370496 + fr n ≤ 9007199254740991 by omega) h3
    have h5 : (2 : Nat) ^ 35 = 34359738368 := by decide
    have h6 : (2 : Nat) ^ 88 = 309485009821345068724781056 := by decide
    rw [h5] at h4
    rw [h6]
    split <;> omega
theorem told_ok {i : Nat} (hi : i < 8) (hm : mid (h i).toNat) : f_X0_told_2 a h w f3 f4 f5 f6 (nI i) = some (Li (tl (h i).toNat)) := by
  unfold f_X0_told_2
  have hst : f_X1_steps a h w f3 f4 f5 f6 (nI i) 30 = some (nI (stp (h i).toNat 30)) := steps_ok (d := 30) hi hm (by decide)
  rw [whole_ok hi hm, hst]
  simp only [Option.bind_some, lt_eq, lti_eq, ltl_eq]
  have hvb := val_bound hm
  have h88 : (2 : Nat) ^ 88 = 309485009821345068724781056 := by decide
  rw [h88] at hvb
  have hs30 := stp_lt (h i).toNat 30
  have h30 : (2 : Nat) ^ 30 = 1073741824 := by decide
  rw [h30] at hs30
  obtain ⟨V, hV⟩ : ∃ V, V = val (h i).toNat 70 := ⟨_, rfl⟩
  have e70 : (2 : Int) ^ 70 = 1180591620717411303424 := by decide
  have e40 : (2 : Int) ^ 40 = 1099511627776 := by decide
  have hw : (iw (V / 2 ^ 70)).toInt64.toInt = V / 2 ^ 70 := by
    rw [Int32.toInt_toInt64]
    have h1 := wd_iw (V / 2 ^ 70)
    have h2 : (iw (V / 2 ^ 70)).toInt = (iw (V / 2 ^ 70)).toBitVec.toInt := rfl
    have h3 : wd (iw (V / 2 ^ 70)) = (iw (V / 2 ^ 70)).toBitVec.toNat := rfl
    rw [h2, BitVec.toInt_eq_toNat_cond, ← h3]
    rw [e70] at h1 ⊢
    rw [← hV] at hvb
    split <;> omega
  rw [← hV]
  have hsI : ((nI (stp (h i).toNat 30)).toInt64).toInt = (stp (h i).toNat 30 : Int) := by rw [Int32.toInt_toInt64, nI_toInt (by omega)]
  have hfin : ((iw (V / 2 ^ 70)).toInt64 * 1073741824 + (nI (stp (h i).toNat 30)).toInt64) = Li (tl (h i).toNat) := by
    apply Li_of
    have hmul : ((iw (V / 2 ^ 70)).toInt64 * 1073741824).toInt = V / 2 ^ 70 * 1073741824 := by
      rw [Int64.toInt_mul, hw, show (1073741824 : Int64).toInt = 1073741824 from rfl]
      rw [e70]
      rw [← hV] at hvb
      exact bmod_small (by omega) (by omega)
    have hst : (stp (h i).toNat 30 : Int) = V / 2 ^ 40 % 1073741824 := by
      unfold stp
      rw [← hV]
      have := Int.emod_nonneg (V / 2 ^ (70 - 30)) (show (2 : Int) ^ 30 ≠ 0 by decide)
      have e : (2 : Int) ^ 30 = 1073741824 := by decide
      rw [e] at this ⊢
      rw [Int.toNat_of_nonneg this]
    rw [toInt_add' (by rw [hmul, hsI, e70]; rw [← hV] at hvb; omega) (by rw [hmul, hsI, e70]; rw [← hV] at hvb; omega), hmul, hsI, hst]
    unfold tl
    rw [← hV, show (2 : Int) ^ 70 = 2 ^ 40 * 1073741824 by decide, ← Int.ediv_ediv_of_nonneg (by decide)]
    have := Int.emod_add_mul_ediv (V / 2 ^ 40) 1073741824
    omega
  refine (Option.bind_eq_some_iff.mpr ?_ : _)
  obtain ⟨o, ho, hP⟩ := lp_inv (F := fun x : Int32 => (show Option (Sum Int32 Int64) from (if 30 ≤ x then some (.inr ((iw (V / 2 ^ 70)).toInt64 * 1073741824 + (nI (stp (h i).toNat 30)).toInt64)) else
      (f_X1_steps a h w f3 f4 f5 f6 (nI i) x).bind fun o22 => if lg_cmp o22.toInt64 ((nI (stp (h i).toNat 30)).toInt64 >>> ((30 - x).toInt64 &&& 63)) = 0 then some (.inl (x + 7)) else some (.inr (-9223372036854775808)))))
    (fun k x => ∃ j, j + k = 5 ∧ x = nI (7 * j)) (fun o => o = Li (tl (h i).toNat)) (by
      intro k x hI
      obtain ⟨j, h1, rfl⟩ := hI
      dsimp only
      rw [show (30 : Int32) = nI 30 from rfl, ite_leI (by decide) (by omega)]
      by_cases c : k = 0
      · rw [if_pos (by omega)]
        exact ⟨_, rfl, hfin⟩
      · rw [if_neg (by omega), steps_ok hi hm (by omega), Option.bind_some, nI_sub (by omega)]
        have hsd := stp_lt (h i).toNat (7 * j)
        have hpd : 2 ^ (7 * j) ≤ 2 ^ 30 := Nat.pow_le_pow_right (by decide) (by omega)
        rw [h30] at hpd
        have hsh : (nI (stp (h i).toNat 30)).toInt64 >>> ((nI (30 - 7 * j)).toInt64 &&& 63) = (nI (stp (h i).toNat (7 * j))).toInt64 := by
          apply Int64.toInt_inj.mp
          have e2 : ∀ k : Nat, ((2 ^ k : Nat) : Int) = (2 : Int) ^ k := fun k => by rw [Int.natCast_pow]; rfl
          rw [toInt_shr _ (by omega), hsI, Int32.toInt_toInt64, nI_toInt (by omega), ← e2, ← Int.natCast_ediv, stp_shift _ (by omega)]
        rw [ite_eqP (lcmp_eq0 _ _), if_pos hsh.symm]
        exact ⟨_, rfl, k - 1, by omega, j + 1, by omega, by rw [show (7 : Int32) = nI 7 from rfl, nI_add]; congr 1⟩) 5 9 (nI 0) (by decide) ⟨0, rfl, rfl⟩
  exact ⟨o, ho, by rw [hP]⟩
end
