noncomputable def fNr (n d : Nat) : Nat := @Bool.rec (fun _ => Nat) (@Bool.rec (fun _ => Nat) (Nat.add (Nat.div n d) (Nat.mod (Nat.div n d) (nat_lit 2))) (Nat.succ (Nat.div n d)) (Nat.blt d (Nat.mul (nat_lit 2) (Nat.mod n d)))) (Nat.div n d) (Nat.blt (Nat.mul (nat_lit 2) (Nat.mod n d)) d)
theorem fNr_eq (n d : Nat) : fNr n d = FP.Core.nearest n d := by
  unfold fNr FP.Core.nearest
  rw [b_rec, b_rec]
  by_cases c1 : 2 * (n % d) < d
  · rw [if_pos c1, if_pos (show Nat.blt (Nat.mul 2 (Nat.mod n d)) d = true from Nat.blt_eq.mpr c1)]; rfl
  · rw [if_neg c1, if_neg (show ¬ Nat.blt (Nat.mul 2 (Nat.mod n d)) d = true from fun z => c1 (Nat.blt_eq.mp z))]
    by_cases c2 : d < 2 * (n % d)
    · rw [if_pos c2, if_pos (show Nat.blt d (Nat.mul 2 (Nat.mod n d)) = true from Nat.blt_eq.mpr c2)]; rfl
    · rw [if_neg c2, if_neg (show ¬ Nat.blt d (Nat.mul 2 (Nat.mod n d)) = true from fun z => c2 (Nat.blt_eq.mp z))]; rfl
noncomputable def fDiv3 (ea eb s c d : Nat) : Nat := @Bool.rec (fun _ => Nat) (fAsm s (Nat.sub (Nat.add ea (nat_lit 1021)) eb) (fNr (Nat.mul c (nat_lit 9007199254740992)) d)) (fAsm s (Nat.sub (Nat.add ea (nat_lit 1022)) eb) (fNr (Nat.mul c (nat_lit 4503599627370496)) d)) (Nat.ble d c)
noncomputable def fDiv1 (sa sb a b : Nat) : Nat := @Bool.rec (fun _ => Nat) (nat_lit 18446744073709551616) (@Bool.rec (fun _ => Nat) (nat_lit 18446744073709551616) (fDiv3 (Nat.mod sa (nat_lit 2048)) (Nat.mod sb (nat_lit 2048)) (Nat.div (Nat.xor sa sb) (nat_lit 2048)) (fMa a) (fMa b)) (fOk (Nat.mod sb (nat_lit 2048)))) (fOk (Nat.mod sa (nat_lit 2048)))
noncomputable def fDivN (a b : Nat) : Nat := fDiv1 (Nat.div a (nat_lit 4503599627370496)) (Nat.div b (nat_lit 4503599627370496)) a b
noncomputable def ddivF (a b : UInt64) : UInt64 := fLong (fDivN a.toNat b.toNat) (FP.ddiv a b)
theorem lead2 {c d : Nat} (h1 : 4503599627370496 ≤ c) (h2 : c < 9007199254740992) (h3 : 4503599627370496 ≤ d) (h4 : d < 9007199254740992) : FP.Core.leading c d = if d ≤ c then 0 else -1 := by
  unfold FP.Core.leading
  rw [log2_of (L := 52) (by rw [show (2 : Nat) ^ 52 = 4503599627370496 by decide]; exact h1) (by rw [show (2 : Nat) ^ (52 + 1) = 9007199254740992 by decide]; exact h2), log2_of (L := 52) (by rw [show (2 : Nat) ^ 52 = 4503599627370496 by decide]; exact h3) (by rw [show (2 : Nat) ^ (52 + 1) = 9007199254740992 by decide]; exact h4)]
  simp only [Int.sub_self, Int.toNat_zero, Nat.pow_zero, Nat.mul_one, Int.neg_zero]
  rfl
theorem near_bd {n d : Nat} (hd : 0 < d) (h1 : 4503599627370496 * d ≤ n) (h2 : n < 9007199254740992 * d) : 4503599627370496 ≤ FP.Core.nearest n d ∧ FP.Core.nearest n d ≤ 9007199254740992 := by
  have q1 : 4503599627370496 ≤ n / d := (Nat.le_div_iff_mul_le hd).mpr h1
  have q2 : n / d < 9007199254740992 := (Nat.div_lt_iff_lt_mul hd).mpr h2
  unfold FP.Core.nearest
  split
  · omega
  · split <;> omega
theorem fDivN_ok {x y : Nat} (hx : x < 18446744073709551616) (hy : y < 18446744073709551616) (hb : fDivN x y < 18446744073709551616) : FP.Core.encode FP.Core.b64 (FP.Core.quotient FP.Core.b64 (FP.Core.decode FP.Core.b64 x) (FP.Core.decode FP.Core.b64 y)) = fDivN x y := by
  unfold fDivN fDiv1 at hb ⊢
  rw [b_rec, b_rec] at hb ⊢
  have g3 := sg_xor (a := x / 4503599627370496 / 2048) (b := y / 4503599627370496 / 2048) (by omega) (by omega)
  rw [← xor_hi] at g3
  by_cases c1 : fOk (x / 4503599627370496 % 2048) = true
  · rw [if_pos (show fOk (Nat.mod (Nat.div x 4503599627370496) 2048) = true from c1)] at hb ⊢
    by_cases c2 : fOk (y / 4503599627370496 % 2048) = true
    · rw [if_pos (show fOk (Nat.mod (Nat.div y 4503599627370496) 2048) = true from c2)] at hb ⊢
      have d1 := fOk_iff.mp c1
      have d2 := fOk_iff.mp c2
      rw [dec_norm (x := x) (by omega) (by omega), dec_norm (x := y) (by omega) (by omega)]
      have a1 : 4503599627370496 ≤ 4503599627370496 + x % 4503599627370496 ∧ 4503599627370496 + x % 4503599627370496 < 9007199254740992 := by omega
      have b1 : 4503599627370496 ≤ 4503599627370496 + y % 4503599627370496 ∧ 4503599627370496 + y % 4503599627370496 < 9007199254740992 := by omega
      show _ = fDiv3 (x / 4503599627370496 % 2048) (y / 4503599627370496 % 2048) ((x / 4503599627370496 ^^^ y / 4503599627370496) / 2048) (x % 4503599627370496 + 4503599627370496) (y % 4503599627370496 + 4503599627370496)
      rw [Nat.add_comm (x % 4503599627370496), Nat.add_comm (y % 4503599627370496), ← g3]
      dsimp only [FP.Core.quotient]
      rw [if_neg (by omega)]
      generalize 4503599627370496 + x % 4503599627370496 = a at a1 ⊢
      generalize 4503599627370496 + y % 4503599627370496 = b at b1 ⊢
      generalize x / 4503599627370496 % 2048 = ea at d1 ⊢
      generalize y / 4503599627370496 % 2048 = eb at d2 ⊢
      generalize ((x / 4503599627370496 / 2048 % 2 == 1) != (y / 4503599627370496 / 2048 % 2 == 1)) = s
      unfold FP.Core.roundRatio FP.Core.roundAt FP.Core.quantum FP.Core.unitsNum FP.Core.unitsDen
      rw [if_neg (by omega), lead2 a1.1 a1.2 b1.1 b1.2, c_qmin, c_p]
      unfold fDiv3
      rw [b_rec, fNr_eq, fNr_eq]
      by_cases c3 : b ≤ a
      · rw [if_pos c3, if_pos (Nat.ble_eq_true_of_le c3)]
        rw [show max (-1074 : Int) (0 + ((ea : Int) - 1075 - ((eb : Int) - 1075)) - (((53 : Nat) : Int) - 1)) = (ea : Int) - eb - 52 by omega, show ((ea : Int) - 1075 - ((eb : Int) - 1075) - ((ea : Int) - eb - 52)).toNat = 52 by omega, show ((ea : Int) - eb - 52 - ((ea : Int) - 1075 - ((eb : Int) - 1075))).toNat = 0 by omega, Nat.pow_zero, Nat.mul_one, show (2 : Nat) ^ 52 = 4503599627370496 by decide]
        have hbd := near_bd (n := a * 4503599627370496) (d := b) (by omega) (by omega) (by omega)
        rw [enc_settle hbd.1 hbd.2 (by omega) (by omega), show ((ea : Int) - eb - 52 + 1074).toNat = ea + 1022 - eb by omega]
        rfl
      · rw [if_neg c3, if_neg (fun z => c3 (Nat.le_of_ble_eq_true z))]
        rw [show max (-1074 : Int) (-1 + ((ea : Int) - 1075 - ((eb : Int) - 1075)) - (((53 : Nat) : Int) - 1)) = (ea : Int) - eb - 53 by omega, show ((ea : Int) - 1075 - ((eb : Int) - 1075) - ((ea : Int) - eb - 53)).toNat = 53 by omega, show ((ea : Int) - eb - 53 - ((ea : Int) - 1075 - ((eb : Int) - 1075))).toNat = 0 by omega, Nat.pow_zero, Nat.mul_one, show (2 : Nat) ^ 53 = 9007199254740992 by decide]
        have hbd := near_bd (n := a * 9007199254740992) (d := b) (by omega) (by omega) (by omega)
        rw [enc_settle hbd.1 hbd.2 (by omega) (by omega), show ((ea : Int) - eb - 53 + 1074).toNat = ea + 1021 - eb by omega]
        rfl
    · rw [if_neg (show ¬ fOk (Nat.mod (Nat.div y 4503599627370496) 2048) = true from c2)] at hb
      exact absurd hb (by decide)
  · rw [if_neg (show ¬ fOk (Nat.mod (Nat.div x 4503599627370496) 2048) = true from c1)] at hb
    exact absurd hb (by decide)
theorem ddivF_eq (a b : UInt64) : ddivF a b = FP.ddiv a b := by
  refine fLong_eq fun h => ?_
  show _ = UInt64.ofNat (FP.Core.encode _ _)
  rw [fDivN_ok a.toNat_lt b.toNat_lt h]
/-- an int as a double -/
noncomputable def fI2 (n : Nat) : Nat := @Bool.rec (fun _ => Nat) (@Bool.rec (fun _ => Nat) (fRn4 (nat_lit 1) (Nat.sub (nat_lit 4294967296) n) (nat_lit 1075) (lgF (Nat.sub (nat_lit 4294967296) n))) (fRn4 (nat_lit 0) n (nat_lit 1075) (lgF n)) (Nat.blt n (nat_lit 2147483648))) (nat_lit 0) (Nat.beq n (nat_lit 0))
noncomputable def i2dF (a : Int32) : UInt64 := frc (fI2 a.toUInt32.toNat) fun n => UInt64.ofNat n
theorem i32_nat (a : Int32) : a.toInt = if a.toUInt32.toNat < 2147483648 then (a.toUInt32.toNat : Int) else (a.toUInt32.toNat : Int) - 4294967296 := by
  have h : a.toInt = a.toBitVec.toInt := rfl
  have h2 : a.toUInt32.toNat = a.toBitVec.toNat := rfl
  rw [h, h2, BitVec.toInt_eq_toNat_cond]
  have := a.toBitVec.isLt
  split <;> split <;> omega
theorem i2dF_eq (a : Int32) : i2dF a = FP.i2d a := by
  unfold i2dF fI2
  rw [frc_eq, b_rec, b_rec]
  have hl : a.toUInt32.toNat < 4294967296 := a.toUInt32.toNat_lt
  have ha := i32_nat a
  show _ = UInt64.ofNat (FP.Core.encode FP.Core.b64 (FP.Core.round FP.Core.b64 (.fin (decide (a.toInt < 0)) a.toInt.natAbs 0)))
  generalize a.toUInt32.toNat = n at *
  rw [ha]
  by_cases c0 : n = 0
  · rw [if_pos (show Nat.beq n 0 = true by rw [Nat.beq_eq]; exact c0)]
    subst c0
    rfl
  · rw [if_neg (show ¬ Nat.beq n 0 = true by rw [Nat.beq_eq]; exact c0)]
    by_cases c1 : n < 2147483648
    · rw [if_pos c1, if_pos (show Nat.blt n 2147483648 = true from Nat.blt_eq.mpr c1), show decide ((n : Int) < 0) = false by simp]
      obtain ⟨l1, l2⟩ := lgF_ok (v := n) (by omega) (by omega)
      have l3 : lgF n ≤ 63 := by
        refine Nat.le_of_not_lt fun h => ?_
        have := Nat.pow_le_pow_right (show 0 < 2 by decide) h
        rw [show (2 : Nat) ^ Nat.succ 63 = 18446744073709551616 by decide] at this
        omega
      have k := rn4_ok (s := false) (e := 1075) (q := 0) l1 l2 (by omega) (by decide) (by omega)
      show _ = UInt64.ofNat (FP.Core.encode FP.Core.b64 (FP.Core.roundRatio FP.Core.b64 false (n : Int).natAbs 1 0))
      rw [Int.natAbs_natCast, k]
      rfl
    · rw [if_neg c1, if_neg (show ¬ Nat.blt n 2147483648 = true from fun z => c1 (Nat.blt_eq.mp z)), show decide ((n : Int) - 4294967296 < 0) = true by simp; omega]
      obtain ⟨l1, l2⟩ := lgF_ok (v := 4294967296 - n) (by omega) (by omega)
      have l3 : lgF (4294967296 - n) ≤ 63 := by
        refine Nat.le_of_not_lt fun h => ?_
        have := Nat.pow_le_pow_right (show 0 < 2 by decide) h
        rw [show (2 : Nat) ^ Nat.succ 63 = 18446744073709551616 by decide] at this
        omega
      have k := rn4_ok (s := true) (e := 1075) (q := 0) l1 l2 (by omega) (by decide) (by omega)
      show _ = UInt64.ofNat (FP.Core.encode FP.Core.b64 (FP.Core.roundRatio FP.Core.b64 true ((n : Int) - 4294967296).natAbs 1 0))
      rw [show ((n : Int) - 4294967296).natAbs = 4294967296 - n by omega, k]
      rfl
/-- a double as an int, toward zero: the magnitude, or 2^64 -/
noncomputable def fD2 (a e : Nat) : Nat := @Bool.rec (fun _ => Nat) (nat_lit 18446744073709551616) (@Bool.rec (fun _ => Nat) (nat_lit 18446744073709551616) (Nat.div (fMa a) (Nat.pow (nat_lit 2) (Nat.sub (nat_lit 1075) e))) (Nat.ble e (nat_lit 1053))) (fOk e)
noncomputable def fD3 (a m : Nat) (o : Int32) : Int32 := @Bool.rec (fun _ => Int32) o (@Bool.rec (fun _ => Int32) (Int32.ofInt (Int.negOfNat m)) (Int32.ofNat m) (Nat.blt a (nat_lit 9223372036854775808))) (Nat.blt m (nat_lit 18446744073709551616))
noncomputable def d2iF (a : UInt64) : Int32 := frc a.toNat fun n => frc (fD2 n (Nat.mod (Nat.div n (nat_lit 4503599627370496)) (nat_lit 2048))) fun m => @Bool.rec (fun _ => Int32) (fD3 n m (FP.d2i a)) (0 : Int32) (Nat.beq (Nat.mod n (nat_lit 9223372036854775808)) (nat_lit 0))
theorem d2iF_eq (a : UInt64) : d2iF a = FP.d2i a := by
  unfold d2iF
  rw [frc_eq, frc_eq, b_rec]
  have ha := a.toNat_lt
  by_cases c0 : a.toNat % 9223372036854775808 = 0
  · rw [if_pos (show Nat.beq (Nat.mod a.toNat 9223372036854775808) 0 = true by rw [Nat.beq_eq]; exact c0)]
    show _ = FP.Core.toI (FP.Core.decode FP.Core.b64 a.toNat)
    rw [dec_zero ha c0]
    show _ = Int32.ofInt (max (-2147483648) (min 2147483647 (FP.Core.truncate _ 0 _)))
    unfold FP.Core.truncate
    rw [Nat.zero_mul, Nat.zero_div]
    cases (a.toNat / 4503599627370496 / 2048 % 2 == 1) <;> rfl
  · rw [if_neg (show ¬ Nat.beq (Nat.mod a.toNat 9223372036854775808) 0 = true by rw [Nat.beq_eq]; exact c0)]
    unfold fD3 fD2
    rw [b_rec, b_rec, b_rec, b_rec]
    by_cases c1 : fOk (a.toNat / 4503599627370496 % 2048) = true
    · rw [if_pos (show fOk (Nat.mod (Nat.div a.toNat 4503599627370496) 2048) = true from c1)]
      by_cases c2 : a.toNat / 4503599627370496 % 2048 ≤ 1053
      · rw [if_pos (show Nat.ble (Nat.mod (Nat.div a.toNat 4503599627370496) 2048) 1053 = true from Nat.ble_eq_true_of_le c2)]
        have d1 := fOk_iff.mp c1
        show _ = FP.Core.toI (FP.Core.decode FP.Core.b64 a.toNat)
        rw [dec_norm (x := a.toNat) (by omega) (by omega)]
        have hz : a.toNat / 4503599627370496 / 2048 = if a.toNat < 9223372036854775808 then 0 else 1 := by split <;> omega
        have a1 : fMa a.toNat = 4503599627370496 + a.toNat % 4503599627370496 := Nat.add_comm _ _
        have a2 : 4503599627370496 + a.toNat % 4503599627370496 < 9007199254740992 := by omega
        have e0 : (((a.toNat / 4503599627370496 % 2048 : Nat) : Int) - 1075).toNat = 0 := by omega
        have e1 : (-(((a.toNat / 4503599627370496 % 2048 : Nat) : Int) - 1075)).toNat = 1075 - a.toNat / 4503599627370496 % 2048 := by omega
        show _ = Int32.ofInt (max (-2147483648) (min 2147483647 (FP.Core.truncate _ _ _)))
        unfold FP.Core.truncate
        rw [e0, e1, Nat.pow_zero, Nat.mul_one, a1]
        have hp : 4194304 ≤ 2 ^ (1075 - a.toNat / 4503599627370496 % 2048) := by
          rw [show (4194304 : Nat) = 2 ^ 22 by decide]
          exact Nat.pow_le_pow_right (by decide) (by omega)
        show (if Nat.blt ((4503599627370496 + a.toNat % 4503599627370496) / 2 ^ (1075 - a.toNat / 4503599627370496 % 2048)) 18446744073709551616 = true then (if Nat.blt a.toNat 9223372036854775808 = true then Int32.ofNat ((4503599627370496 + a.toNat % 4503599627370496) / 2 ^ (1075 - a.toNat / 4503599627370496 % 2048)) else Int32.ofInt (Int.negOfNat ((4503599627370496 + a.toNat % 4503599627370496) / 2 ^ (1075 - a.toNat / 4503599627370496 % 2048)))) else _) = _
        have hm : (4503599627370496 + a.toNat % 4503599627370496) / 2 ^ (1075 - a.toNat / 4503599627370496 % 2048) < 2147483648 := by
          rw [Nat.div_lt_iff_lt_mul (by omega)]; omega
        generalize (4503599627370496 + a.toNat % 4503599627370496) / 2 ^ (1075 - a.toNat / 4503599627370496 % 2048) = M at hm ⊢
        rw [if_pos (show Nat.blt M 18446744073709551616 = true from Nat.blt_eq.mpr (by omega)), hz]
        by_cases c3 : a.toNat < 9223372036854775808
        · rw [if_pos c3, if_pos (show Nat.blt a.toNat 9223372036854775808 = true from Nat.blt_eq.mpr c3)]
          show Int32.ofNat M = Int32.ofInt (max (-2147483648) (min 2147483647 (M : Int)))
          rw [show max (-2147483648 : Int) (min 2147483647 (M : Int)) = (M : Int) by omega]
          rfl
        · rw [if_neg c3, if_neg (show ¬ Nat.blt a.toNat 9223372036854775808 = true from fun z => c3 (Nat.blt_eq.mp z))]
          show Int32.ofInt (Int.negOfNat M) = Int32.ofInt (max (-2147483648) (min 2147483647 (-(M : Int))))
          rw [show max (-2147483648 : Int) (min 2147483647 (-(M : Int))) = -(M : Int) by omega, Int.negOfNat_eq]
          rfl
      · rw [if_neg (show ¬ Nat.ble (Nat.mod (Nat.div a.toNat 4503599627370496) 2048) 1053 = true from fun z => c2 (Nat.le_of_ble_eq_true z)), if_neg (by decide)]
    · rw [if_neg (show ¬ fOk (Nat.mod (Nat.div a.toNat 4503599627370496) 2048) = true from c1), if_neg (by decide)]
/-! the order of doubles by their digits -/
def dkey (x : Nat) : Int := if x < 9223372036854775808 then (x : Int) else -((x - 9223372036854775808 : Nat) : Int)
/-- a magnitude in units of 2^-1074 -/
def dval (n : Nat) : Nat := if n / 4503599627370496 = 0 then n else (4503599627370496 + n % 4503599627370496) * 2 ^ (n / 4503599627370496 - 1)
theorem dval_lt {a b : Nat} (h : a < b) : dval a < dval b := by
  unfold dval
  by_cases ca : a / 4503599627370496 = 0
  · rw [if_pos ca]
    by_cases cb : b / 4503599627370496 = 0
    · rw [if_pos cb]; exact h
    · rw [if_neg cb]
      have hp := Nat.two_pow_pos (b / 4503599627370496 - 1)
      have : 4503599627370496 * 1 ≤ (4503599627370496 + b % 4503599627370496) * 2 ^ (b / 4503599627370496 - 1) := Nat.mul_le_mul (by omega) hp
      omega
  · rw [if_neg ca]
    have cb : ¬ b / 4503599627370496 = 0 := by omega
    rw [if_neg cb]
    by_cases he : a / 4503599627370496 = b / 4503599627370496
    · rw [he]
      exact Nat.mul_lt_mul_of_pos_right (by omega) (Nat.two_pow_pos _)
    · have hlt : a / 4503599627370496 < b / 4503599627370496 := by omega
      have hp := Nat.two_pow_pos (a / 4503599627370496 - 1)
      have h2 : 2 ^ (a / 4503599627370496 - 1 + 1) ≤ 2 ^ (b / 4503599627370496 - 1) := Nat.pow_le_pow_right (by decide) (by omega)
      rw [Nat.pow_succ] at h2
      have h3 : 4503599627370496 * 2 ^ (b / 4503599627370496 - 1) ≤ (4503599627370496 + b % 4503599627370496) * 2 ^ (b / 4503599627370496 - 1) := Nat.mul_le_mul_right _ (by omega)
      have h4 : (4503599627370496 + a % 4503599627370496) * 2 ^ (a / 4503599627370496 - 1) < 9007199254740992 * 2 ^ (a / 4503599627370496 - 1) := Nat.mul_lt_mul_of_pos_right (by omega) hp
      omega
theorem dval_0 : dval 0 = 0 := rfl
theorem dval_mono {a b : Nat} : dval a < dval b ↔ a < b := by
  refine ⟨fun h => ?_, dval_lt⟩
  rcases Nat.lt_trichotomy a b with c | c | c
  · exact c
  · rw [c] at h; omega
  · have := dval_lt c; omega
/-- no infinity, no NaN -/
def dfin (x : Nat) : Prop := x % 9223372036854775808 < 9218868437227405312
theorem dec_fin {x : Nat} (hx : x < 18446744073709551616) (h : dfin x) : ∃ (c : Nat) (q : Int), FP.Core.decode FP.Core.b64 x = .fin (decide (9223372036854775808 ≤ x)) c q ∧ -1074 ≤ q ∧ c * 2 ^ (q + 1074).toNat = dval (x % 9223372036854775808) := by
  unfold dfin at h
  have hs : (x / 4503599627370496 / 2048 % 2 == 1) = decide (9223372036854775808 ≤ x) := by
    by_cases c : 9223372036854775808 ≤ x
    · rw [decide_eq_true c, show x / 4503599627370496 / 2048 = 1 by omega]; rfl
    · rw [decide_eq_false c, show x / 4503599627370496 / 2048 = 0 by omega]; rfl
  unfold FP.Core.decode FP.Core.fieldE FP.Core.fieldT FP.Core.fieldS
  rw [c_tails, c_exps, c_qmin, if_neg (by omega), hs]
  unfold dval
  by_cases c0 : x / 4503599627370496 % 2048 = 0
  · rw [if_pos c0, if_pos (by omega)]
    refine ⟨_, _, rfl, by omega, ?_⟩
    rw [show ((-1074 : Int) + 1074).toNat = 0 by decide]
    omega
  · rw [if_neg c0, if_neg (by omega)]
    refine ⟨_, _, rfl, by omega, ?_⟩
    rw [show x % 9223372036854775808 / 4503599627370496 = x / 4503599627370496 % 2048 by omega, show x % 9223372036854775808 % 4503599627370496 = x % 4503599627370496 by omega, show ((-1074 : Int) + (((x / 4503599627370496 % 2048 : Nat) : Int) - 1) + 1074).toNat = x / 4503599627370496 % 2048 - 1 by omega]
theorem cmp_scale {a b : Int} {k : Nat} : compare (a * 2 ^ k) (b * 2 ^ k) = compare a b := by
  have hk : (0 : Int) < 2 ^ k := Int.pow_pos (by decide)
  rcases Int.lt_trichotomy a b with c | c | c
  · rw [Int.compare_eq_lt.mpr c, Int.compare_eq_lt.mpr (Int.mul_lt_mul_of_pos_right c hk)]
  · subst c; rw [Int.compare_eq_eq.mpr rfl, Int.compare_eq_eq.mpr rfl]
  · rw [Int.compare_eq_gt.mpr c, Int.compare_eq_gt.mpr (Int.mul_lt_mul_of_pos_right c hk)]
theorem dcmp_key {a b : UInt64} (ha : dfin a.toNat) (hb : dfin b.toNat) : FP.dcmp a b = some (compare (dkey a.toNat) (dkey b.toNat)) := by
  obtain ⟨c, q, e1, q1, v1⟩ := dec_fin a.toNat_lt ha
  obtain ⟨d, r, e2, q2, v2⟩ := dec_fin b.toNat_lt hb
  show FP.Core.order (FP.Core.decode FP.Core.b64 a.toNat) (FP.Core.decode FP.Core.b64 b.toNat) = _
  rw [e1, e2]
  show some (compare (FP.Core.signed _ (FP.Core.inUnits c q (min q r))) (FP.Core.signed _ (FP.Core.inUnits d r (min q r)))) = _
  congr 1
  have hc : c * 2 ^ (q - min q r).toNat * 2 ^ (min q r + 1074).toNat = dval (a.toNat % 9223372036854775808) := by
    rw [Nat.mul_assoc, ← Nat.pow_add, ← v1]; congr 2; omega
  have hd : d * 2 ^ (r - min q r).toNat * 2 ^ (min q r + 1074).toNat = dval (b.toNat % 9223372036854775808) := by
    rw [Nat.mul_assoc, ← Nat.pow_add, ← v2]; congr 2; omega
  unfold FP.Core.inUnits
  have hs : ∀ (s : Bool) (n k : Nat), FP.Core.signed s n * 2 ^ k = FP.Core.signed s (n * 2 ^ k) := by
    intro s n k
    cases s
    · show (n : Int) * 2 ^ k = ((n * 2 ^ k : Nat) : Int); rw [Int.natCast_mul, Int.natCast_pow]; rfl
    · show -(n : Int) * 2 ^ k = -((n * 2 ^ k : Nat) : Int); rw [Int.natCast_mul, Int.natCast_pow, Int.neg_mul]; rfl
  rw [← cmp_scale (k := (min q r + 1074).toNat), hs, hs, hc, hd]
  have key : ∀ x : Nat, x < 18446744073709551616 → dkey x = FP.Core.signed (decide (9223372036854775808 ≤ x)) (x % 9223372036854775808) := by
    intro x hx
    unfold dkey
    by_cases c : x < 9223372036854775808
    · rw [if_pos c, decide_eq_false (by omega)]
      show (x : Int) = ((x % 9223372036854775808 : Nat) : Int)
      rw [Nat.mod_eq_of_lt c]
    · rw [if_neg c, decide_eq_true (by omega)]
      show -((x - 9223372036854775808 : Nat) : Int) = -((x % 9223372036854775808 : Nat) : Int)
      rw [show x - 9223372036854775808 = x % 9223372036854775808 by omega]
  rw [key _ a.toNat_lt, key _ b.toNat_lt]
  generalize decide (9223372036854775808 ≤ a.toNat) = s
  generalize decide (9223372036854775808 ≤ b.toNat) = t
  generalize a.toNat % 9223372036854775808 = m
  generalize b.toNat % 9223372036854775808 = n
  have h1 := dval_mono (a := m) (b := n)
  have h2 := dval_mono (a := n) (b := m)
  have h3 := dval_mono (a := 0) (b := m)
  have h4 := dval_mono (a := 0) (b := n)
  rw [dval_0] at h3 h4
  have tri : ∀ {p q r t : Int}, (p < q ↔ r < t) → (q < p ↔ t < r) → compare p q = compare r t := by
    intro p q r t i1 i2
    rcases Int.lt_trichotomy p q with c | c | c
    · rw [Int.compare_eq_lt.mpr c, Int.compare_eq_lt.mpr (i1.mp c)]
    · rw [Int.compare_eq_eq.mpr c, Int.compare_eq_eq.mpr (by omega)]
    · rw [Int.compare_eq_gt.mpr c, Int.compare_eq_gt.mpr (i2.mp c)]
  cases s <;> cases t <;> simp only [FP.Core.signed, if_true, if_false, Bool.false_eq_true] <;> exact tri (by omega) (by omega)
