/-! the short road answers what the machine's operations answer -/
theorem b_rec {α : Type} (b : Bool) (t f : α) : (@Bool.rec (fun _ => α) f t b) = if b = true then t else f := by cases b <;> rfl
theorem c_tails : FP.Core.b64.tails = 4503599627370496 := by decide
theorem c_exps : FP.Core.b64.exps = 2048 := by decide
theorem c_qmin : FP.Core.b64.qmin = -1074 := by decide
theorem c_qmax : FP.Core.b64.qmax = 971 := by decide
theorem c_p : FP.Core.b64.p = 53 := rfl
theorem dec_norm {x : Nat} (h1 : 0 < x / 4503599627370496 % 2048) (h2 : x / 4503599627370496 % 2048 < 2047) : FP.Core.decode FP.Core.b64 x = .fin (x / 4503599627370496 / 2048 % 2 == 1) (4503599627370496 + x % 4503599627370496) (((x / 4503599627370496 % 2048 : Nat) : Int) - 1075) := by
  unfold FP.Core.decode FP.Core.fieldE FP.Core.fieldT FP.Core.fieldS
  rw [c_tails, c_exps, c_qmin, if_neg (by omega), if_neg (by omega)]
  congr 1
  omega
theorem dec_zero {x : Nat} (h : x < 18446744073709551616) (h1 : x % 9223372036854775808 = 0) : FP.Core.decode FP.Core.b64 x = .fin (x / 4503599627370496 / 2048 % 2 == 1) 0 (-1074) := by
  unfold FP.Core.decode FP.Core.fieldE FP.Core.fieldT FP.Core.fieldS
  rw [c_tails, c_exps, c_qmin, if_neg (by omega), if_pos (by omega)]
  congr 1
  omega
theorem log2_of {v L : Nat} (h1 : 2 ^ L ≤ v) (h2 : v < 2 ^ (L + 1)) : v.log2 = L := by
  have h0 : v ≠ 0 := by have := Nat.two_pow_pos L; omega
  exact (Nat.log2_eq_iff h0).mpr ⟨h1, h2⟩
theorem lead1 {v L : Nat} (h1 : 2 ^ L ≤ v) (h2 : v < 2 ^ (L + 1)) : FP.Core.leading v 1 = (L : Int) := by
  unfold FP.Core.leading
  rw [log2_of h1 h2, show Nat.log2 1 = 0 from by decide]
  simp only [Int.natCast_zero, Int.sub_zero, Int.toNat_natCast, Nat.one_mul, Int.toNat_neg_natCast, Nat.pow_zero, Nat.mul_one]
  rw [if_pos h1]
/-- rounding away k digits -/
theorem rr_hi {s : Bool} {v k : Nat} {q : Int} (h1 : 2 ^ (52 + k) ≤ v) (h2 : v < 2 ^ (53 + k)) (hq : -1074 ≤ q + k) : FP.Core.roundRatio FP.Core.b64 s v 1 q = FP.Core.settle FP.Core.b64 s (FP.Core.nearest v (2 ^ k)) (q + k) := by
  have h0 : v ≠ 0 := by have := Nat.two_pow_pos (52 + k); omega
  unfold FP.Core.roundRatio FP.Core.roundAt FP.Core.quantum
  rw [if_neg h0, lead1 h1 (by rw [show 52 + k + 1 = 53 + k by omega]; exact h2), c_qmin, c_p]
  have e : max (-1074 : Int) (((52 + k : Nat) : Int) + q - ((53 : Nat) - 1)) = q + k := by omega
  rw [e]
  unfold FP.Core.unitsNum FP.Core.unitsDen
  rw [show (q - (q + k)).toNat = 0 by omega, show (q + k - q).toNat = k by omega, Nat.pow_zero, Nat.mul_one, Nat.one_mul]
/-- few digits: nothing is rounded -/
theorem rr_lo {s : Bool} {v L : Nat} {q : Int} (h1 : 2 ^ L ≤ v) (h2 : v < 2 ^ (L + 1)) (hL : L ≤ 52) (hq : -1074 ≤ q - (52 - L : Nat)) : FP.Core.roundRatio FP.Core.b64 s v 1 q = FP.Core.settle FP.Core.b64 s (v * 2 ^ (52 - L)) (q - (52 - L : Nat)) := by
  have h0 : v ≠ 0 := by have := Nat.two_pow_pos L; omega
  unfold FP.Core.roundRatio FP.Core.roundAt FP.Core.quantum
  rw [if_neg h0, lead1 h1 h2, c_qmin, c_p]
  have e : max (-1074 : Int) ((L : Int) + q - ((53 : Nat) - 1)) = q - (52 - L : Nat) := by omega
  rw [e]
  unfold FP.Core.unitsNum FP.Core.unitsDen
  rw [show (q - (q - (52 - L : Nat))).toNat = 52 - L by omega, show (q - (52 - L : Nat) - q).toNat = 0 by omega, Nat.pow_zero, Nat.mul_one]
  congr 1
  unfold FP.Core.nearest
  rw [Nat.mod_one, if_pos (by decide), Nat.div_one]
theorem rr_zero {s : Bool} {q : Int} : FP.Core.encode FP.Core.b64 (FP.Core.roundRatio FP.Core.b64 s 0 1 q) = s.toNat * 9223372036854775808 := by
  unfold FP.Core.roundRatio FP.Core.encode
  rw [if_pos rfl]
  simp only [c_tails, if_pos (show (0 : Nat) < 4503599627370496 by decide), FP.Core.assemble, c_exps]
  omega
/-- nearest by one division -/
theorem nearest_rd {v k : Nat} (hk : 0 < k) : FP.Core.nearest v (2 ^ k) = fRd v (2 ^ k) (2 ^ (k - 1) - 1) := by
  obtain ⟨j, rfl⟩ : ∃ j, k = j + 1 := ⟨k - 1, by omega⟩
  rw [show j + 1 - 1 = j by omega]
  have hp : 2 ^ (j + 1) = 2 * 2 ^ j := by rw [Nat.pow_succ, Nat.mul_comm]
  have hh := Nat.two_pow_pos j
  rw [hp]
  generalize 2 ^ j = h at hh ⊢
  show _ = (v + (h - 1) + v / (2 * h) % 2) / (2 * h)
  have hv := Nat.div_add_mod v (2 * h)
  have hr := Nat.mod_lt v (show 0 < 2 * h by omega)
  unfold FP.Core.nearest
  generalize v % (2 * h) = r at *
  generalize v / (2 * h) = z at *
  have e : v + (h - 1) + z % 2 = 2 * h * z + (r + (h - 1) + z % 2) := by omega
  rw [e, Nat.mul_add_div (by omega)]
  have hz := Nat.mod_lt z (show 0 < 2 by decide)
  by_cases c1 : 2 * r < 2 * h
  · rw [if_pos c1, Nat.div_eq_of_lt (by omega)]; omega
  · rw [if_neg c1]
    by_cases c2 : 2 * h < 2 * r
    · rw [if_pos c2]
      have : (r + (h - 1) + z % 2) / (2 * h) = 1 := Nat.div_eq_of_lt_le (by omega) (by omega)
      omega
    · rw [if_neg c2]
      have hrh : r = h := by omega
      subst hrh
      rcases (show z % 2 = 0 ∨ z % 2 = 1 by omega) with c3 | c3 <;> rw [c3]
      · rw [Nat.div_eq_of_lt (by omega)]
      · have : (r + (r - 1) + 1) / (2 * r) = 1 := Nat.div_eq_of_lt_le (by omega) (by omega)
        omega
theorem enc_settle {s : Bool} {m : Nat} {X : Int} (h1 : 4503599627370496 ≤ m) (h2 : m ≤ 9007199254740992) (hX : -1074 ≤ X) (hX2 : X ≤ 970) : FP.Core.encode FP.Core.b64 (FP.Core.settle FP.Core.b64 s m X) = fAsm s.toNat (X + 1074).toNat m := by
  show _ = s.toNat * 9223372036854775808 + ((X + 1074).toNat * 4503599627370496 + m)
  unfold FP.Core.settle FP.Core.bound
  rw [c_qmax, c_tails, c_p, show (2 : Nat) ^ 53 = 9007199254740992 by decide]
  by_cases c : m < 9007199254740992
  · rw [if_pos c, if_pos (by omega)]
    simp only [FP.Core.encode, c_tails, FP.Core.assemble, c_exps, c_qmin]
    rw [if_neg (by omega)]
    omega
  · rw [if_neg c, if_pos (by omega)]
    simp only [FP.Core.encode, c_tails, FP.Core.assemble, c_exps, c_qmin]
    rw [if_neg (by omega)]
    omega
theorem rd_bounds {v k : Nat} (hk : 0 < k) (h1 : 2 ^ (52 + k) ≤ v) (h2 : v < 2 ^ (53 + k)) : 4503599627370496 ≤ fRd v (2 ^ k) (2 ^ (k - 1) - 1) ∧ fRd v (2 ^ k) (2 ^ (k - 1) - 1) ≤ 9007199254740992 := by
  rw [Nat.pow_add] at h1 h2
  have hk0 := Nat.two_pow_pos k
  have hk1 : 2 ^ k = 2 * 2 ^ (k - 1) := by
    rw [← Nat.pow_succ']
    congr 1; omega
  have hk2 := Nat.two_pow_pos (k - 1)
  show 4503599627370496 ≤ (v + (2 ^ (k - 1) - 1) + v / 2 ^ k % 2) / 2 ^ k ∧ (v + (2 ^ (k - 1) - 1) + v / 2 ^ k % 2) / 2 ^ k ≤ 9007199254740992
  have hz := Nat.mod_lt (v / 2 ^ k) (show 0 < 2 by decide)
  generalize v / 2 ^ k % 2 = z at *
  constructor
  · rw [Nat.le_div_iff_mul_le hk0]; omega
  · rw [Nat.div_le_iff_le_mul_add_pred hk0]; omega
/-- v with k digits to round away, or none -/
theorem rn3_ok {s : Bool} {v e k : Nat} {q : Int} (h1 : 2 ^ (52 + k) ≤ v) (h2 : v < 2 ^ (53 + k)) (he : q = (e : Int) - 1075) (h3 : 1 ≤ e + k) (h4 : e + k ≤ 2045) : FP.Core.encode FP.Core.b64 (FP.Core.roundRatio FP.Core.b64 s v 1 q) = fRn3 s.toNat v e k := by
  rw [rr_hi h1 h2 (by omega)]
  unfold fRn3
  rw [b_rec]
  by_cases hk : k = 0
  · subst hk
    rw [if_pos (show Nat.beq 0 0 = true from rfl)]
    simp only [Nat.add_zero] at h1 h2
    have e1 : FP.Core.nearest v (2 ^ 0) = v := by
      unfold FP.Core.nearest
      rw [Nat.pow_zero, Nat.mod_one, if_pos (by decide), Nat.div_one]
    rw [e1, enc_settle (by omega) (by omega) (by omega) (by omega)]
    congr 1
    show _ = e - 1
    omega
  · have hb := rd_bounds (by omega) h1 h2
    rw [if_neg (by intro h; exact hk (Nat.eq_of_beq_eq_true h)), nearest_rd (by omega), enc_settle hb.1 hb.2 (by omega) (by omega)]
    congr 1
    show _ = e + k - 1
    omega
theorem rn4_ok {s : Bool} {v e L : Nat} {q : Int} (h1 : 2 ^ L ≤ v) (h2 : v < 2 ^ (L + 1)) (he : q = (e : Int) - 1075) (h3 : 100 ≤ e) (h4 : e + L ≤ 2000) : FP.Core.encode FP.Core.b64 (FP.Core.roundRatio FP.Core.b64 s v 1 q) = fRn4 s.toNat v e L := by
  unfold fRn4
  rw [b_rec]
  by_cases hL : 52 ≤ L
  · rw [if_pos (Nat.ble_eq_true_of_le hL)]
    have e1 : 52 + (L - 52) = L := by omega
    exact rn3_ok (k := L - 52) (by rw [e1]; exact h1) (by rw [show 53 + (L - 52) = L + 1 by omega]; exact h2) he (by omega) (by omega)
  · rw [if_neg (by intro h; exact hL (Nat.le_of_ble_eq_true h)), rr_lo h1 h2 (by omega) (by omega)]
    have hp : 2 ^ L * 2 ^ (52 - L) = 4503599627370496 := by rw [← Nat.pow_add, show L + (52 - L) = 52 by omega]
    have hp2 : 2 ^ (L + 1) * 2 ^ (52 - L) = 9007199254740992 := by rw [← Nat.pow_add, show L + 1 + (52 - L) = 53 by omega]
    have b1 := Nat.mul_le_mul_right (2 ^ (52 - L)) h1
    have b2 := Nat.mul_le_mul_right (2 ^ (52 - L)) (Nat.le_of_lt h2)
    rw [enc_settle (by omega) (by omega) (by omega) (by omega)]
    show fAsm _ _ (v * 2 ^ (52 - L)) = fAsm _ (e + L - 52 - 1) (v * 2 ^ (52 - L))
    congr 1
    omega
theorem lgS_ok {k p a v : Nat} {next : Nat → Nat → Nat} (hp : p = 2 ^ k) (hv : 0 < v) (hn : ∀ w b, 0 < w → w < 2 ^ k → 2 ^ (next w b - b) ≤ w ∧ w < 2 ^ (next w b - b + 1) ∧ b ≤ next w b) (h2 : v < 2 ^ (k + k)) : 2 ^ (lgS k p next v a - a) ≤ v ∧ v < 2 ^ (lgS k p next v a - a + 1) ∧ a ≤ lgS k p next v a := by
  subst hp
  unfold lgS
  rw [b_rec]
  by_cases c : v < 2 ^ k
  · rw [if_pos (Nat.blt_eq.mpr c)]
    exact hn v a hv c
  · rw [if_neg (by intro h; exact c (Nat.blt_eq.mp h))]
    show 2 ^ (next (v / 2 ^ k) (a + k) - a) ≤ v ∧ v < 2 ^ (next (v / 2 ^ k) (a + k) - a + 1) ∧ a ≤ next (v / 2 ^ k) (a + k)
    have hk0 := Nat.two_pow_pos k
    have q1 : 0 < v / 2 ^ k := Nat.div_pos (by omega) hk0
    have q2 : v / 2 ^ k < 2 ^ k := by rw [Nat.div_lt_iff_lt_mul hk0, ← Nat.pow_add]; exact h2
    obtain ⟨n1, n2, n3⟩ := hn (v / 2 ^ k) (a + k) q1 q2
    generalize next (v / 2 ^ k) (a + k) = N at *
    obtain ⟨M, rfl⟩ : ∃ M, N = a + k + M := ⟨N - (a + k), by omega⟩
    rw [show a + k + M - (a + k) = M by omega] at n1 n2
    rw [show a + k + M - a = k + M by omega]
    refine ⟨?_, ?_, by omega⟩
    · rw [Nat.pow_add, Nat.mul_comm]; exact (Nat.le_div_iff_mul_le hk0).mp n1
    · rw [show k + M + 1 = M + 1 + k by omega, Nat.pow_add]; exact (Nat.div_lt_iff_lt_mul hk0).mp n2
theorem lgF_ok {v : Nat} (h0 : 0 < v) (h : v < 18446744073709551616) : 2 ^ lgF v ≤ v ∧ v < 2 ^ (lgF v + 1) := by
  have l1 : ∀ w b, 0 < w → w < 2 ^ 2 → 2 ^ (lg1 w b - b) ≤ w ∧ w < 2 ^ (lg1 w b - b + 1) ∧ b ≤ lg1 w b := fun w b h0 h => lgS_ok (k := 1) rfl h0 (fun w b h0 h => by
    have : w = 1 := by omega
    subst this
    show 2 ^ (b - b) ≤ 1 ∧ 1 < 2 ^ (b - b + 1) ∧ b ≤ b
    rw [Nat.sub_self]; exact ⟨by decide, by decide, Nat.le_refl _⟩) h
  have l2 : ∀ w b, 0 < w → w < 2 ^ 4 → 2 ^ (lg2 w b - b) ≤ w ∧ w < 2 ^ (lg2 w b - b + 1) ∧ b ≤ lg2 w b := fun w b h0 h => lgS_ok (k := 2) rfl h0 l1 h
  have l4 : ∀ w b, 0 < w → w < 2 ^ 8 → 2 ^ (lg4 w b - b) ≤ w ∧ w < 2 ^ (lg4 w b - b + 1) ∧ b ≤ lg4 w b := fun w b h0 h => lgS_ok (k := 4) rfl h0 l2 h
  have l8 : ∀ w b, 0 < w → w < 2 ^ 16 → 2 ^ (lg8 w b - b) ≤ w ∧ w < 2 ^ (lg8 w b - b + 1) ∧ b ≤ lg8 w b := fun w b h0 h => lgS_ok (k := 8) rfl h0 l4 h
  have l16 : ∀ w b, 0 < w → w < 2 ^ 32 → 2 ^ (lg16 w b - b) ≤ w ∧ w < 2 ^ (lg16 w b - b + 1) ∧ b ≤ lg16 w b := fun w b h0 h => lgS_ok (k := 16) rfl h0 l8 h
  have l32 := lgS_ok (k := 32) (p := 4294967296) (a := 0) (v := v) (next := lg16) (by decide) h0 l16 (by rw [show (2 : Nat) ^ (32 + 32) = 18446744073709551616 by decide]; exact h)
  exact ⟨l32.1, l32.2.1⟩
theorem rn2_ok {s : Bool} {v e d : Nat} {q : Int} (hv : 0 < v) (h2 : v < 2 ^ (54 + d)) (he : q = (e : Int) - 1075) (h3 : 700 ≤ e) (h4 : e ≤ 1300) (h5 : d ≤ 512) (hb : fRn2 s.toNat v e d (2 ^ (d + 52)) < 18446744073709551616) : FP.Core.encode FP.Core.b64 (FP.Core.roundRatio FP.Core.b64 s v 1 q) = fRn2 s.toNat v e d (2 ^ (d + 52)) := by
  unfold fRn2 at hb ⊢
  rw [b_rec, b_rec, b_rec, b_rec] at hb ⊢
  by_cases c1 : 2 ^ (d + 52) ≤ v
  · rw [if_pos (Nat.ble_eq_true_of_le c1)]
    by_cases c2 : 2 * 2 ^ (d + 52) ≤ v
    · rw [if_pos (show Nat.ble (Nat.mul 2 (2 ^ (d + 52))) v = true from Nat.ble_eq_true_of_le c2)]
      refine rn3_ok (k := d + 1) ?_ ?_ he (by omega) (by omega)
      · rw [show 52 + (d + 1) = d + 52 + 1 by omega, Nat.pow_succ]; omega
      · rw [show 53 + (d + 1) = 54 + d by omega]; exact h2
    · rw [if_neg (show ¬ Nat.ble (Nat.mul 2 (2 ^ (d + 52))) v = true from fun h => c2 (Nat.le_of_ble_eq_true h))]
      refine rn3_ok (k := d) ?_ ?_ he (by omega) (by omega)
      · rw [show 52 + d = d + 52 by omega]; exact c1
      · rw [show 53 + d = d + 52 + 1 by omega, Nat.pow_succ]; omega
  · rw [if_neg (fun h => c1 (Nat.le_of_ble_eq_true h))] at hb ⊢
    by_cases c3 : v < 18446744073709551616
    · rw [if_pos (show Nat.blt v 18446744073709551616 = true from Nat.blt_eq.mpr c3)]
      obtain ⟨l1, l2⟩ := lgF_ok hv c3
      have l3 : lgF v ≤ 63 := by
        refine Nat.le_of_not_lt fun h => ?_
        have := Nat.pow_le_pow_right (show 0 < 2 by decide) h
        have e64 : (2 : Nat) ^ 64 = 18446744073709551616 := by decide
        rw [show Nat.succ 63 = 64 from rfl, e64] at this
        omega
      exact rn4_ok l1 l2 he (by omega) (by omega)
    · rw [if_neg (show ¬ Nat.blt v 18446744073709551616 = true from fun h => c3 (Nat.blt_eq.mp h))] at hb ⊢
      by_cases c4 : 2 ^ (d + 52) ≤ 2 * v
      · rw [if_pos (show Nat.ble (2 ^ (d + 52)) (Nat.mul 2 v) = true from Nat.ble_eq_true_of_le c4)]
        have hd : 1 ≤ d := by
          refine Nat.le_of_not_lt fun h => c1 ?_
          obtain rfl : d = 0 := by omega
          rw [show (2 : Nat) ^ (0 + 52) = 4503599627370496 by decide]
          omega
        obtain ⟨k, rfl⟩ : ∃ k, d = k + 1 := ⟨d - 1, by omega⟩
        rw [show k + 1 + 52 = 52 + k + 1 by omega, Nat.pow_succ] at c4
        rw [show k + 1 + 52 = 53 + k by omega] at c1
        show _ = fRn3 s.toNat v e (k + 1 - 1)
        rw [show k + 1 - 1 = k by omega]
        exact rn3_ok (k := k) (by omega) (by omega) he (by omega) (by omega)
      · rw [if_neg (show ¬ Nat.ble (2 ^ (d + 52)) (Nat.mul 2 v) = true from fun h => c4 (Nat.le_of_ble_eq_true h))] at hb
        exact absurd hb (by decide)
theorem add4_ok {s1 s2 : Bool} {m1 m2 e d : Nat} {q : Int} (h1 : 4503599627370496 ≤ m1) (h1' : m1 < 9007199254740992) (h2 : 4503599627370496 ≤ m2) (h2' : m2 < 9007199254740992) (he : q = (e : Int) - 1075) (h3 : 700 ≤ e) (h4 : e ≤ 1300) (h5 : d ≤ 512) (hb : fAdd4 e s1.toNat m1 s2.toNat (m2 * 2 ^ d) d < 18446744073709551616) :
    FP.Core.encode FP.Core.b64 (FP.Core.round FP.Core.b64 (.fin (FP.Core.sumSign s1 s2 (FP.Core.signed s1 m1 + FP.Core.signed s2 (m2 * 2 ^ d))) (FP.Core.signed s1 m1 + FP.Core.signed s2 (m2 * 2 ^ d)).natAbs q)) = fAdd4 e s1.toNat m1 s2.toNat (m2 * 2 ^ d) d := by
  have hd0 := Nat.two_pow_pos d
  have hn : 0 < m2 * 2 ^ d := Nat.mul_pos (by omega) hd0
  have hn2 : m2 * 2 ^ d < 9007199254740992 * 2 ^ d := Nat.mul_lt_mul_of_pos_right h2' hd0
  have hbig : m1 + m2 * 2 ^ d < 2 ^ (54 + d) := by
    rw [Nat.pow_add, show (2 : Nat) ^ 54 = 18014398509481984 by decide]; omega
  generalize m2 * 2 ^ d = n2 at *
  show FP.Core.encode FP.Core.b64 (FP.Core.roundRatio FP.Core.b64 _ _ 1 q) = _
  unfold fAdd4 at hb ⊢
  rw [b_rec, b_rec, b_rec] at hb ⊢
  by_cases c1 : s1 = s2
  · subst c1
    rw [if_pos (Nat.beq_refl _)] at hb ⊢
    have e1 : (FP.Core.signed s1 m1 + FP.Core.signed s1 n2).natAbs = m1 + n2 := by cases s1 <;> simp only [FP.Core.signed, if_true, if_false, Bool.false_eq_true] <;> omega
    have e2 : FP.Core.sumSign s1 s1 (FP.Core.signed s1 m1 + FP.Core.signed s1 n2) = s1 := by
      unfold FP.Core.sumSign
      rw [if_neg (by intro h; rw [h] at e1; simp at e1; omega)]
      cases s1 <;> simp only [FP.Core.signed, if_true, if_false, Bool.false_eq_true, decide_eq_true_eq, decide_eq_false_iff_not] <;> omega
    rw [e1, e2]
    exact rn2_ok (by omega) hbig he h3 h4 h5 hb
  · have hbq : Nat.beq s1.toNat s2.toNat = false := by
      cases s1 <;> cases s2 <;> first | rfl | exact absurd rfl c1
    rw [if_neg (by rw [hbq]; decide)] at hb ⊢
    by_cases c2 : m1 < n2
    · rw [if_pos (Nat.blt_eq.mpr c2)] at hb ⊢
      have e1 : (FP.Core.signed s1 m1 + FP.Core.signed s2 n2).natAbs = n2 - m1 := by
        cases s1 <;> cases s2 <;> first | exact absurd rfl c1 | (simp only [FP.Core.signed, if_true, if_false, Bool.false_eq_true]; omega)
      have e2 : FP.Core.sumSign s1 s2 (FP.Core.signed s1 m1 + FP.Core.signed s2 n2) = s2 := by
        unfold FP.Core.sumSign
        rw [if_neg (by intro h; rw [h] at e1; simp at e1; omega)]
        cases s1 <;> cases s2 <;> first | exact absurd rfl c1 | (simp only [FP.Core.signed, if_true, if_false, Bool.false_eq_true, decide_eq_true_eq, decide_eq_false_iff_not]; omega)
      rw [e1, e2]
      exact rn2_ok (by omega) (by omega) he h3 h4 h5 hb
    · rw [if_neg (fun h => c2 (Nat.blt_eq.mp h))] at hb ⊢
      by_cases c3 : n2 < m1
      · rw [if_pos (Nat.blt_eq.mpr c3)] at hb ⊢
        have e1 : (FP.Core.signed s1 m1 + FP.Core.signed s2 n2).natAbs = m1 - n2 := by
          cases s1 <;> cases s2 <;> first | exact absurd rfl c1 | (simp only [FP.Core.signed, if_true, if_false, Bool.false_eq_true]; omega)
        have e2 : FP.Core.sumSign s1 s2 (FP.Core.signed s1 m1 + FP.Core.signed s2 n2) = s1 := by
          unfold FP.Core.sumSign
          rw [if_neg (by intro h; rw [h] at e1; simp at e1; omega)]
          cases s1 <;> cases s2 <;> first | exact absurd rfl c1 | (simp only [FP.Core.signed, if_true, if_false, Bool.false_eq_true, decide_eq_true_eq, decide_eq_false_iff_not]; omega)
        rw [e1, e2]
        exact rn2_ok (by omega) (by omega) he h3 h4 h5 hb
      · rw [if_neg (fun h => c3 (Nat.blt_eq.mp h))]
        obtain rfl : m1 = n2 := by omega
        have e1 : FP.Core.signed s1 m1 + FP.Core.signed s2 m1 = 0 := by
          cases s1 <;> cases s2 <;> first | exact absurd rfl c1 | (simp only [FP.Core.signed, if_true, if_false, Bool.false_eq_true]; omega)
        rw [e1, show (0 : Int).natAbs = 0 from rfl, rr_zero]
        have e2 : FP.Core.sumSign s1 s2 0 = false := by
          cases s1 <;> cases s2 <;> first | exact absurd rfl c1 | rfl
        rw [e2]; rfl
theorem fOk_iff {e : Nat} : fOk e = true ↔ 768 ≤ e ∧ e ≤ 1279 := by
  show Nat.beq ((e + 256) / 512) 2 = true ↔ _
  rw [Nat.beq_eq]
  omega
theorem sg_nat {z : Nat} (h : z < 2) : (z % 2 == 1).toNat = z := by
  rcases (show z = 0 ∨ z = 1 by omega) with rfl | rfl <;> rfl
/-- the sum, by the short road -/
theorem fAddN_ok {x y : Nat} (hx : x < 18446744073709551616) (hy : y < 18446744073709551616) (hb : fAddN x y < 18446744073709551616) : FP.Core.encode FP.Core.b64 (FP.Core.round FP.Core.b64 (FP.Core.exactSum (FP.Core.decode FP.Core.b64 x) (FP.Core.decode FP.Core.b64 y))) = fAddN x y := by
  unfold fAddN fAdd1 at hb ⊢
  rw [b_rec, b_rec] at hb ⊢
  have z1 : fAddZ (x / 4503599627370496) (y / 4503599627370496) x y < 18446744073709551616 → FP.Core.encode FP.Core.b64 (FP.Core.round FP.Core.b64 (FP.Core.exactSum (FP.Core.decode FP.Core.b64 x) (FP.Core.decode FP.Core.b64 y))) = fAddZ (x / 4503599627370496) (y / 4503599627370496) x y := by
    intro hb
    unfold fAddZ at hb ⊢
    rw [b_rec, b_rec, b_rec, b_rec] at hb ⊢
    by_cases c1 : x % 9223372036854775808 = 0
    · rw [if_pos (show Nat.beq (Nat.mod x 9223372036854775808) 0 = true by rw [Nat.beq_eq]; exact c1)] at hb ⊢
      by_cases c2 : fOk (y / 4503599627370496 % 2048) = true
      · rw [if_pos (show fOk (Nat.mod (y / 4503599627370496) 2048) = true from c2)] at hb ⊢
        have c3 := fOk_iff.mp c2
        rw [dec_zero hx c1, dec_norm (x := y) (by omega) (by omega)]
        show FP.Core.encode FP.Core.b64 (FP.Core.roundRatio FP.Core.b64 (FP.Core.sumSign _ _ (FP.Core.sumUnits _ 0 (-1074) _ _ _ _)) (FP.Core.sumUnits _ 0 (-1074) _ _ _ _).natAbs 1 _) = y
        rw [show min (-1074 : Int) (((y / 4503599627370496 % 2048 : Nat) : Int) - 1075) = -1074 by omega]
        unfold FP.Core.sumUnits FP.Core.inUnits
        rw [Nat.zero_mul, show ((((y / 4503599627370496 % 2048 : Nat) : Int) - 1075) - (-1074)).toNat = y / 4503599627370496 % 2048 - 1 by omega]
        have hp := Nat.two_pow_pos (y / 4503599627370496 % 2048 - 1)
        have hm : 0 < (4503599627370496 + y % 4503599627370496) * 2 ^ (y / 4503599627370496 % 2048 - 1) := Nat.mul_pos (by omega) hp
        have hlo : 4503599627370496 * 2 ^ (y / 4503599627370496 % 2048 - 1) ≤ (4503599627370496 + y % 4503599627370496) * 2 ^ (y / 4503599627370496 % 2048 - 1) := Nat.mul_le_mul_right _ (by omega)
        have hhi : (4503599627370496 + y % 4503599627370496) * 2 ^ (y / 4503599627370496 % 2048 - 1) < 9007199254740992 * 2 ^ (y / 4503599627370496 % 2048 - 1) := Nat.mul_lt_mul_of_pos_right (by omega) hp
        have e0 : FP.Core.signed (x / 4503599627370496 / 2048 % 2 == 1) 0 = 0 := by cases (x / 4503599627370496 / 2048 % 2 == 1) <;> rfl
        rw [e0, Int.zero_add]
        have hnear : FP.Core.nearest ((4503599627370496 + y % 4503599627370496) * 2 ^ (y / 4503599627370496 % 2048 - 1)) (2 ^ (y / 4503599627370496 % 2048 - 1)) = 4503599627370496 + y % 4503599627370496 := by
          unfold FP.Core.nearest
          rw [Nat.mul_mod_left, if_pos (by omega), Nat.mul_div_cancel _ hp]
        have hsg := sg_nat (z := y / 4503599627370496 / 2048) (by omega)
        generalize (y / 4503599627370496 / 2048 % 2 == 1) = t at *
        have e1 : (FP.Core.signed t ((4503599627370496 + y % 4503599627370496) * 2 ^ (y / 4503599627370496 % 2048 - 1))).natAbs = (4503599627370496 + y % 4503599627370496) * 2 ^ (y / 4503599627370496 % 2048 - 1) := by cases t <;> simp only [FP.Core.signed, if_true, if_false, Bool.false_eq_true] <;> omega
        have e2 : ∀ u, FP.Core.sumSign u t (FP.Core.signed t ((4503599627370496 + y % 4503599627370496) * 2 ^ (y / 4503599627370496 % 2048 - 1))) = t := by
          intro u
          unfold FP.Core.sumSign
          rw [if_neg (by intro h; rw [h] at e1; simp at e1; omega)]
          cases t <;> simp only [FP.Core.signed, if_true, if_false, Bool.false_eq_true, decide_eq_true_eq, decide_eq_false_iff_not] <;> omega
        rw [e1, e2, rr_hi (k := y / 4503599627370496 % 2048 - 1) (by rw [Nat.pow_add, show (2 : Nat) ^ 52 = 4503599627370496 by decide]; exact hlo) (by rw [Nat.pow_add, show (2 : Nat) ^ 53 = 9007199254740992 by decide]; exact hhi) (by omega), hnear, enc_settle (by omega) (by omega) (by omega) (by omega)]
        show t.toNat * 9223372036854775808 + (_ * 4503599627370496 + _) = y
        rw [hsg]
        omega
      · rw [if_neg (show ¬ fOk (Nat.mod (y / 4503599627370496) 2048) = true from c2)] at hb
        exact absurd hb (by decide)
    · rw [if_neg (show ¬ Nat.beq (Nat.mod x 9223372036854775808) 0 = true by rw [Nat.beq_eq]; exact c1)] at hb ⊢
      by_cases c1y : y % 9223372036854775808 = 0
      · rw [if_pos (show Nat.beq (Nat.mod y 9223372036854775808) 0 = true by rw [Nat.beq_eq]; exact c1y)] at hb ⊢
        by_cases c2 : fOk (x / 4503599627370496 % 2048) = true
        · rw [if_pos (show fOk (Nat.mod (x / 4503599627370496) 2048) = true from c2)] at hb ⊢
          have c3 := fOk_iff.mp c2
          rw [dec_zero hy c1y, dec_norm (x := x) (by omega) (by omega)]
          show FP.Core.encode FP.Core.b64 (FP.Core.roundRatio FP.Core.b64 (FP.Core.sumSign _ _ (FP.Core.sumUnits _ _ _ _ 0 (-1074) _)) (FP.Core.sumUnits _ _ _ _ 0 (-1074) _).natAbs 1 _) = x
          rw [show min (((x / 4503599627370496 % 2048 : Nat) : Int) - 1075) (-1074 : Int) = -1074 by omega]
          unfold FP.Core.sumUnits FP.Core.inUnits
          rw [Nat.zero_mul, show ((((x / 4503599627370496 % 2048 : Nat) : Int) - 1075) - (-1074)).toNat = x / 4503599627370496 % 2048 - 1 by omega]
          have hp := Nat.two_pow_pos (x / 4503599627370496 % 2048 - 1)
          have hm : 0 < (4503599627370496 + x % 4503599627370496) * 2 ^ (x / 4503599627370496 % 2048 - 1) := Nat.mul_pos (by omega) hp
          have hlo : 4503599627370496 * 2 ^ (x / 4503599627370496 % 2048 - 1) ≤ (4503599627370496 + x % 4503599627370496) * 2 ^ (x / 4503599627370496 % 2048 - 1) := Nat.mul_le_mul_right _ (by omega)
          have hhi : (4503599627370496 + x % 4503599627370496) * 2 ^ (x / 4503599627370496 % 2048 - 1) < 9007199254740992 * 2 ^ (x / 4503599627370496 % 2048 - 1) := Nat.mul_lt_mul_of_pos_right (by omega) hp
          have e0 : FP.Core.signed (y / 4503599627370496 / 2048 % 2 == 1) 0 = 0 := by cases (y / 4503599627370496 / 2048 % 2 == 1) <;> rfl
          rw [e0, Int.add_zero]
          have hnear : FP.Core.nearest ((4503599627370496 + x % 4503599627370496) * 2 ^ (x / 4503599627370496 % 2048 - 1)) (2 ^ (x / 4503599627370496 % 2048 - 1)) = 4503599627370496 + x % 4503599627370496 := by
            unfold FP.Core.nearest
            rw [Nat.mul_mod_left, if_pos (by omega), Nat.mul_div_cancel _ hp]
          have hsg := sg_nat (z := x / 4503599627370496 / 2048) (by omega)
          generalize (x / 4503599627370496 / 2048 % 2 == 1) = t at *
          have e1 : (FP.Core.signed t ((4503599627370496 + x % 4503599627370496) * 2 ^ (x / 4503599627370496 % 2048 - 1))).natAbs = (4503599627370496 + x % 4503599627370496) * 2 ^ (x / 4503599627370496 % 2048 - 1) := by cases t <;> simp only [FP.Core.signed, if_true, if_false, Bool.false_eq_true] <;> omega
          have e2 : ∀ u, FP.Core.sumSign t u (FP.Core.signed t ((4503599627370496 + x % 4503599627370496) * 2 ^ (x / 4503599627370496 % 2048 - 1))) = t := by
            intro u
            unfold FP.Core.sumSign
            rw [if_neg (by intro h; rw [h] at e1; simp at e1; omega)]
            cases t <;> simp only [FP.Core.signed, if_true, if_false, Bool.false_eq_true, decide_eq_true_eq, decide_eq_false_iff_not] <;> omega
          rw [e1, e2, rr_hi (k := x / 4503599627370496 % 2048 - 1) (by rw [Nat.pow_add, show (2 : Nat) ^ 52 = 4503599627370496 by decide]; exact hlo) (by rw [Nat.pow_add, show (2 : Nat) ^ 53 = 9007199254740992 by decide]; exact hhi) (by omega), hnear, enc_settle (by omega) (by omega) (by omega) (by omega)]
          show t.toNat * 9223372036854775808 + (_ * 4503599627370496 + _) = x
          rw [hsg]
          omega
        · rw [if_neg (show ¬ fOk (Nat.mod (x / 4503599627370496) 2048) = true from c2)] at hb
          exact absurd hb (by decide)
      · rw [if_neg (show ¬ Nat.beq (Nat.mod y 9223372036854775808) 0 = true by rw [Nat.beq_eq]; exact c1y)] at hb
        exact absurd hb (by decide)
  by_cases c1 : fOk (x / 4503599627370496 % 2048) = true
  · rw [if_pos (show fOk (Nat.mod (Nat.div x 4503599627370496) 2048) = true from c1)] at hb ⊢
    by_cases c2 : fOk (y / 4503599627370496 % 2048) = true
    · rw [if_pos (show fOk (Nat.mod (Nat.div y 4503599627370496) 2048) = true from c2)] at hb ⊢
      have d1 := fOk_iff.mp c1
      have d2 := fOk_iff.mp c2
      rw [dec_norm (x := x) (by omega) (by omega), dec_norm (x := y) (by omega) (by omega)]
      have g1 := sg_nat (z := x / 4503599627370496 / 2048) (by omega)
      have g2 := sg_nat (z := y / 4503599627370496 / 2048) (by omega)
      have m1 := Nat.mod_lt x (show 0 < 4503599627370496 by decide)
      have m2 := Nat.mod_lt y (show 0 < 4503599627370496 by decide)
      have ex : FP.Core.exactSum (.fin (x / 4503599627370496 / 2048 % 2 == 1) (4503599627370496 + x % 4503599627370496) (((x / 4503599627370496 % 2048 : Nat) : Int) - 1075)) (.fin (y / 4503599627370496 / 2048 % 2 == 1) (4503599627370496 + y % 4503599627370496) (((y / 4503599627370496 % 2048 : Nat) : Int) - 1075)) = .fin (FP.Core.sumSign (x / 4503599627370496 / 2048 % 2 == 1) (y / 4503599627370496 / 2048 % 2 == 1) (FP.Core.sumUnits (x / 4503599627370496 / 2048 % 2 == 1) (4503599627370496 + x % 4503599627370496) (((x / 4503599627370496 % 2048 : Nat) : Int) - 1075) (y / 4503599627370496 / 2048 % 2 == 1) (4503599627370496 + y % 4503599627370496) (((y / 4503599627370496 % 2048 : Nat) : Int) - 1075) (min (((x / 4503599627370496 % 2048 : Nat) : Int) - 1075) (((y / 4503599627370496 % 2048 : Nat) : Int) - 1075)))) (FP.Core.sumUnits (x / 4503599627370496 / 2048 % 2 == 1) (4503599627370496 + x % 4503599627370496) (((x / 4503599627370496 % 2048 : Nat) : Int) - 1075) (y / 4503599627370496 / 2048 % 2 == 1) (4503599627370496 + y % 4503599627370496) (((y / 4503599627370496 % 2048 : Nat) : Int) - 1075) (min (((x / 4503599627370496 % 2048 : Nat) : Int) - 1075) (((y / 4503599627370496 % 2048 : Nat) : Int) - 1075))).natAbs (min (((x / 4503599627370496 % 2048 : Nat) : Int) - 1075) (((y / 4503599627370496 % 2048 : Nat) : Int) - 1075)) := rfl
      rw [ex]
      clear ex
      have hb' : fAdd2 (x / 4503599627370496 % 2048) (x / 4503599627370496 / 2048) (x % 4503599627370496 + 4503599627370496) (y / 4503599627370496 % 2048) (y / 4503599627370496 / 2048) (y % 4503599627370496 + 4503599627370496) < 18446744073709551616 := hb
      show _ = fAdd2 (x / 4503599627370496 % 2048) (x / 4503599627370496 / 2048) (x % 4503599627370496 + 4503599627370496) (y / 4503599627370496 % 2048) (y / 4503599627370496 / 2048) (y % 4503599627370496 + 4503599627370496)
      generalize (x / 4503599627370496 / 2048 % 2 == 1) = s1 at g1 ⊢
      generalize (y / 4503599627370496 / 2048 % 2 == 1) = s2 at g2 ⊢
      rw [Nat.add_comm (x % 4503599627370496), Nat.add_comm (y % 4503599627370496), ← g1, ← g2] at hb' ⊢
      have a1 : 4503599627370496 ≤ 4503599627370496 + x % 4503599627370496 ∧ 4503599627370496 + x % 4503599627370496 < 9007199254740992 := by omega
      have b1 : 4503599627370496 ≤ 4503599627370496 + y % 4503599627370496 ∧ 4503599627370496 + y % 4503599627370496 < 9007199254740992 := by omega
      generalize 4503599627370496 + x % 4503599627370496 = a at a1 hb' ⊢
      generalize 4503599627370496 + y % 4503599627370496 = b at b1 hb' ⊢
      generalize x / 4503599627370496 % 2048 = ea at d1 hb' ⊢
      generalize y / 4503599627370496 % 2048 = eb at d2 hb' ⊢
      unfold fAdd2 at hb' ⊢
      rw [b_rec] at hb' ⊢
      unfold FP.Core.sumUnits FP.Core.inUnits
      by_cases c3 : ea ≤ eb
      · rw [if_pos (Nat.ble_eq_true_of_le c3)] at hb' ⊢
        rw [show min ((ea : Int) - 1075) ((eb : Int) - 1075) = (ea : Int) - 1075 by omega, show ((ea : Int) - 1075 - ((ea : Int) - 1075)).toNat = 0 by omega, show ((eb : Int) - 1075 - ((ea : Int) - 1075)).toNat = eb - ea by omega, Nat.pow_zero, Nat.mul_one]
        have hb2 : fAdd4 ea s1.toNat a s2.toNat (b * 2 ^ (eb - ea)) (eb - ea) < 18446744073709551616 := hb'
        show _ = fAdd4 ea s1.toNat a s2.toNat (b * 2 ^ (eb - ea)) (eb - ea)
        have hd : eb - ea ≤ 512 := by omega
        clear hb'
        generalize eb - ea = d at *
        exact add4_ok (q := (ea : Int) - 1075) a1.1 a1.2 b1.1 b1.2 rfl (by omega) (by omega) hd hb2
      · rw [if_neg (fun h => c3 (Nat.le_of_ble_eq_true h))] at hb' ⊢
        rw [show min ((ea : Int) - 1075) ((eb : Int) - 1075) = (eb : Int) - 1075 by omega, show ((eb : Int) - 1075 - ((eb : Int) - 1075)).toNat = 0 by omega, show ((ea : Int) - 1075 - ((eb : Int) - 1075)).toNat = ea - eb by omega, Nat.pow_zero, Nat.mul_one, Int.add_comm]
        have hsym : ∀ v, FP.Core.sumSign s1 s2 v = FP.Core.sumSign s2 s1 v := fun v => by unfold FP.Core.sumSign; rw [Bool.and_comm]
        rw [hsym]
        have hb2 : fAdd4 eb s2.toNat b s1.toNat (a * 2 ^ (ea - eb)) (ea - eb) < 18446744073709551616 := hb'
        show _ = fAdd4 eb s2.toNat b s1.toNat (a * 2 ^ (ea - eb)) (ea - eb)
        have hd : ea - eb ≤ 512 := by omega
        clear hb'
        generalize ea - eb = d at *
        exact add4_ok (q := (eb : Int) - 1075) b1.1 b1.2 a1.1 a1.2 rfl (by omega) (by omega) hd hb2
    · rw [if_neg (show ¬ fOk (Nat.mod (Nat.div y 4503599627370496) 2048) = true from c2)] at hb ⊢
      exact z1 hb
  · rw [if_neg (show ¬ fOk (Nat.mod (Nat.div x 4503599627370496) 2048) = true from c1)] at hb ⊢
    exact z1 hb
theorem u64_of {n : Nat} : (UInt64.ofNat n).toNat = n % 18446744073709551616 := by rw [UInt64.toNat_ofNat']
theorem fLong_eq {n : Nat} {o : UInt64} (h : n < 18446744073709551616 → UInt64.ofNat n = o) : fLong n o = o := by
  unfold fLong
  rw [frc_eq, b_rec]
  by_cases c : n < 18446744073709551616
  · rw [if_pos (show Nat.blt n 18446744073709551616 = true from Nat.blt_eq.mpr c)]; exact h c
  · rw [if_neg (show ¬ Nat.blt n 18446744073709551616 = true from fun z => c (Nat.blt_eq.mp z))]
theorem daddF_eq (a b : UInt64) : daddF a b = FP.dadd a b := by
  refine fLong_eq fun h => ?_
  show _ = UInt64.ofNat (FP.Core.encode _ _)
  rw [fAddN_ok a.toNat_lt b.toNat_lt h]
theorem fNegN_lt {n : Nat} (h : n < 18446744073709551616) : fNegN n < 18446744073709551616 ∧ fNegN n = if n < 9223372036854775808 then n + 9223372036854775808 else n - 9223372036854775808 := by
  unfold fNegN
  rw [b_rec]
  by_cases c : n < 9223372036854775808
  · rw [if_pos (show Nat.blt n 9223372036854775808 = true from Nat.blt_eq.mpr c), if_pos c]
    exact ⟨by show n + 9223372036854775808 < _; omega, rfl⟩
  · rw [if_neg (show ¬ Nat.blt n 9223372036854775808 = true from fun z => c (Nat.blt_eq.mp z)), if_neg c]
    exact ⟨by show n - 9223372036854775808 < _; omega, rfl⟩
theorem dec_neg {x : Nat} (h : x < 18446744073709551616) : FP.Core.decode FP.Core.b64 (fNegN x) = FP.Core.negate (FP.Core.decode FP.Core.b64 x) := by
  rw [(fNegN_lt h).2]
  have hs : ∀ n : Nat, n < 2 → (n % 2 == 1) = !((1 - n) % 2 == 1) := by
    intro n hn
    rcases (show n = 0 ∨ n = 1 by omega) with rfl | rfl <;> rfl
  by_cases c : x < 9223372036854775808
  · rw [if_pos c]
    unfold FP.Core.decode FP.Core.fieldE FP.Core.fieldT FP.Core.fieldS
    rw [c_tails, c_exps, c_qmin, show (x + 9223372036854775808) / 4503599627370496 % 2048 = x / 4503599627370496 % 2048 by omega, show (x + 9223372036854775808) % 4503599627370496 = x % 4503599627370496 by omega, show (x + 9223372036854775808) / 4503599627370496 / 2048 = 1 by omega, show x / 4503599627370496 / 2048 = 0 by omega]
    by_cases c1 : x / 4503599627370496 % 2048 = 2048 - 1
    · rw [if_pos c1, if_pos c1]
      by_cases c2 : x % 4503599627370496 = 0
      · rw [if_pos c2, if_pos c2]; rfl
      · rw [if_neg c2, if_neg c2]; rfl
    · rw [if_neg c1, if_neg c1]
      by_cases c2 : x / 4503599627370496 % 2048 = 0
      · rw [if_pos c2, if_pos c2]; rfl
      · rw [if_neg c2, if_neg c2]; rfl
  · rw [if_neg c]
    unfold FP.Core.decode FP.Core.fieldE FP.Core.fieldT FP.Core.fieldS
    rw [c_tails, c_exps, c_qmin, show (x - 9223372036854775808) / 4503599627370496 % 2048 = x / 4503599627370496 % 2048 by omega, show (x - 9223372036854775808) % 4503599627370496 = x % 4503599627370496 by omega, show (x - 9223372036854775808) / 4503599627370496 / 2048 = 0 by omega, show x / 4503599627370496 / 2048 = 1 by omega]
    by_cases c1 : x / 4503599627370496 % 2048 = 2048 - 1
    · rw [if_pos c1, if_pos c1]
      by_cases c2 : x % 4503599627370496 = 0
      · rw [if_pos c2, if_pos c2]; rfl
      · rw [if_neg c2, if_neg c2]; rfl
    · rw [if_neg c1, if_neg c1]
      by_cases c2 : x / 4503599627370496 % 2048 = 0
      · rw [if_pos c2, if_pos c2]; rfl
      · rw [if_neg c2, if_neg c2]; rfl
theorem dsubF_eq (a b : UInt64) : dsubF a b = FP.dsub a b := by
  refine fLong_eq fun h => ?_
  show _ = UInt64.ofNat (FP.Core.encode _ (FP.Core.round _ (FP.Core.exactSum _ (FP.Core.negate _))))
  rw [← dec_neg b.toNat_lt, fAddN_ok a.toNat_lt (fNegN_lt b.toNat_lt).1 h]
theorem xor_hi (a b : Nat) : (a ^^^ b) / 2048 = (a / 2048) ^^^ (b / 2048) := by
  have h := Nat.shiftRight_xor_distrib (a := a) (b := b) (i := 11)
  simpa [Nat.shiftRight_eq_div_pow] using h
theorem sg_xor {a b : Nat} (ha : a < 2) (hb : b < 2) : ((a % 2 == 1) != (b % 2 == 1)).toNat = a ^^^ b := by
  rcases (show a = 0 ∨ a = 1 by omega) with rfl | rfl <;> rcases (show b = 0 ∨ b = 1 by omega) with rfl | rfl <;> rfl
theorem fMulN_ok {x y : Nat} (hx : x < 18446744073709551616) (hy : y < 18446744073709551616) (hb : fMulN x y < 18446744073709551616) : FP.Core.encode FP.Core.b64 (FP.Core.round FP.Core.b64 (FP.Core.exactProduct (FP.Core.decode FP.Core.b64 x) (FP.Core.decode FP.Core.b64 y))) = fMulN x y := by
  unfold fMulN fMul1 at hb ⊢
  rw [b_rec, b_rec] at hb ⊢
  have g3 := sg_xor (a := x / 4503599627370496 / 2048) (b := y / 4503599627370496 / 2048) (by omega) (by omega)
  rw [← xor_hi] at g3
  have z1 : fMulZ (x / 4503599627370496) (y / 4503599627370496) x y < 18446744073709551616 → FP.Core.encode FP.Core.b64 (FP.Core.round FP.Core.b64 (FP.Core.exactProduct (FP.Core.decode FP.Core.b64 x) (FP.Core.decode FP.Core.b64 y))) = fMulZ (x / 4503599627370496) (y / 4503599627370496) x y := by
    intro hb
    unfold fMulZ at hb ⊢
    rw [b_rec, b_rec, b_rec, b_rec] at hb ⊢
    by_cases c1 : x % 9223372036854775808 = 0
    · rw [if_pos (show Nat.beq (Nat.mod x 9223372036854775808) 0 = true by rw [Nat.beq_eq]; exact c1)] at hb ⊢
      by_cases c2 : fOk (y / 4503599627370496 % 2048) = true
      · rw [if_pos (show fOk (Nat.mod (y / 4503599627370496) 2048) = true from c2)] at hb ⊢
        have c3 := fOk_iff.mp c2
        rw [dec_zero hx c1, dec_norm (x := y) (by omega) (by omega)]
        show FP.Core.encode FP.Core.b64 (FP.Core.roundRatio FP.Core.b64 _ (0 * _) 1 _) = _ / 2048 * 9223372036854775808
        rw [Nat.zero_mul, rr_zero, g3]
        rfl
      · rw [if_neg (show ¬ fOk (Nat.mod (y / 4503599627370496) 2048) = true from c2)] at hb
        exact absurd hb (by decide)
    · rw [if_neg (show ¬ Nat.beq (Nat.mod x 9223372036854775808) 0 = true by rw [Nat.beq_eq]; exact c1)] at hb ⊢
      by_cases c1y : y % 9223372036854775808 = 0
      · rw [if_pos (show Nat.beq (Nat.mod y 9223372036854775808) 0 = true by rw [Nat.beq_eq]; exact c1y)] at hb ⊢
        by_cases c2 : fOk (x / 4503599627370496 % 2048) = true
        · rw [if_pos (show fOk (Nat.mod (x / 4503599627370496) 2048) = true from c2)] at hb ⊢
          have c3 := fOk_iff.mp c2
          rw [dec_zero hy c1y, dec_norm (x := x) (by omega) (by omega)]
          show FP.Core.encode FP.Core.b64 (FP.Core.roundRatio FP.Core.b64 _ (_ * 0) 1 _) = _ / 2048 * 9223372036854775808
          rw [Nat.mul_zero, rr_zero, g3]
          rfl
        · rw [if_neg (show ¬ fOk (Nat.mod (x / 4503599627370496) 2048) = true from c2)] at hb
          exact absurd hb (by decide)
      · rw [if_neg (show ¬ Nat.beq (Nat.mod y 9223372036854775808) 0 = true by rw [Nat.beq_eq]; exact c1y)] at hb
        exact absurd hb (by decide)
  by_cases c1 : fOk (x / 4503599627370496 % 2048) = true
  · rw [if_pos (show fOk (Nat.mod (Nat.div x 4503599627370496) 2048) = true from c1)] at hb ⊢
    by_cases c2 : fOk (y / 4503599627370496 % 2048) = true
    · rw [if_pos (show fOk (Nat.mod (Nat.div y 4503599627370496) 2048) = true from c2)] at hb ⊢
      have d1 := fOk_iff.mp c1
      have d2 := fOk_iff.mp c2
      rw [dec_norm (x := x) (by omega) (by omega), dec_norm (x := y) (by omega) (by omega)]
      show FP.Core.encode FP.Core.b64 (FP.Core.roundRatio FP.Core.b64 ((x / 4503599627370496 / 2048 % 2 == 1) != (y / 4503599627370496 / 2048 % 2 == 1)) ((4503599627370496 + x % 4503599627370496) * (4503599627370496 + y % 4503599627370496)) 1 (((x / 4503599627370496 % 2048 : Nat) : Int) - 1075 + (((y / 4503599627370496 % 2048 : Nat) : Int) - 1075))) = fMul3 (x / 4503599627370496 % 2048 + y / 4503599627370496 % 2048) ((x / 4503599627370496 ^^^ y / 4503599627370496) / 2048) ((x % 4503599627370496 + 4503599627370496) * (y % 4503599627370496 + 4503599627370496))
      rw [Nat.add_comm (x % 4503599627370496), Nat.add_comm (y % 4503599627370496), ← g3]
      have a1 : 4503599627370496 ≤ 4503599627370496 + x % 4503599627370496 ∧ 4503599627370496 + x % 4503599627370496 < 9007199254740992 := by omega
      have b1 : 4503599627370496 ≤ 4503599627370496 + y % 4503599627370496 ∧ 4503599627370496 + y % 4503599627370496 < 9007199254740992 := by omega
      generalize 4503599627370496 + x % 4503599627370496 = a at a1 ⊢
      generalize 4503599627370496 + y % 4503599627370496 = b at b1 ⊢
      generalize x / 4503599627370496 % 2048 = ea at d1 ⊢
      generalize y / 4503599627370496 % 2048 = eb at d2 ⊢
      generalize ((x / 4503599627370496 / 2048 % 2 == 1) != (y / 4503599627370496 / 2048 % 2 == 1)) = s
      have v1 : 4503599627370496 * 4503599627370496 ≤ a * b := Nat.mul_le_mul a1.1 b1.1
      have v2 : a * b < 9007199254740992 * 9007199254740992 := Nat.mul_lt_mul'' a1.2 b1.2
      generalize a * b = v at v1 v2 ⊢
      have f52 : ∀ k v, fRd v (2 ^ k) (2 ^ (k - 1) - 1) = (v + (2 ^ (k - 1) - 1) + v / 2 ^ k % 2) / 2 ^ k := fun _ _ => rfl
      unfold fMul3
      rw [b_rec]
      by_cases c3 : v < 40564819207303340847894502572032
      · rw [if_pos (show Nat.blt v 40564819207303340847894502572032 = true from Nat.blt_eq.mpr c3)]
        have h1 : 2 ^ (52 + 52) ≤ v := by rw [show (2 : Nat) ^ (52 + 52) = 20282409603651670423947251286016 by decide]; omega
        have h2 : v < 2 ^ (53 + 52) := by rw [show (2 : Nat) ^ (53 + 52) = 40564819207303340847894502572032 by decide]; exact c3
        have hb := rd_bounds (by decide) h1 h2
        rw [rr_hi h1 h2 (by omega), nearest_rd (by decide), enc_settle hb.1 hb.2 (by omega) (by omega)]
        show fAsm _ _ _ = fAsm s.toNat (ea + eb - 1024) (fRd v 4503599627370496 2251799813685247)
        rw [show (2 : Nat) ^ 52 = 4503599627370496 by decide, show (2 : Nat) ^ (52 - 1) - 1 = 2251799813685247 by decide, show ((ea : Int) - 1075 + ((eb : Int) - 1075) + ((52 : Nat) : Int) + 1074).toNat = ea + eb - 1024 by omega]
      · rw [if_neg (show ¬ Nat.blt v 40564819207303340847894502572032 = true from fun z => c3 (Nat.blt_eq.mp z))]
        have h1 : 2 ^ (52 + 53) ≤ v := by rw [show (2 : Nat) ^ (52 + 53) = 40564819207303340847894502572032 by decide]; omega
        have h2 : v < 2 ^ (53 + 53) := by rw [show (2 : Nat) ^ (53 + 53) = 81129638414606681695789005144064 by decide]; omega
        have hb := rd_bounds (by decide) h1 h2
        rw [rr_hi h1 h2 (by omega), nearest_rd (by decide), enc_settle hb.1 hb.2 (by omega) (by omega)]
        show fAsm _ _ _ = fAsm s.toNat (ea + eb - 1023) (fRd v 9007199254740992 4503599627370495)
        rw [show (2 : Nat) ^ 53 = 9007199254740992 by decide, show (2 : Nat) ^ (53 - 1) - 1 = 4503599627370495 by decide, show ((ea : Int) - 1075 + ((eb : Int) - 1075) + ((53 : Nat) : Int) + 1074).toNat = ea + eb - 1023 by omega]
    · rw [if_neg (show ¬ fOk (Nat.mod (Nat.div y 4503599627370496) 2048) = true from c2)] at hb ⊢
      exact z1 hb
  · rw [if_neg (show ¬ fOk (Nat.mod (Nat.div x 4503599627370496) 2048) = true from c1)] at hb ⊢
    exact z1 hb
theorem dmulF_eq (a b : UInt64) : dmulF a b = FP.dmul a b := by
  refine fLong_eq fun h => ?_
  show _ = UInt64.ofNat (FP.Core.encode _ _)
  rw [fMulN_ok a.toNat_lt b.toNat_lt h]
theorem ck_step {α : Type} {v : UInt64} {k : UInt64 → Option α} {r : α} (h : ck v k = some r) : ∃ w : UInt64, w = v ∧ vf_n64 w ∧ k w = some r := by
  unfold ck at h
  rw [frc_eq, b_rec] at h
  by_cases c : okN v.toNat = true
  · rw [if_pos c, UInt64.ofNat_toNat] at h
    refine ⟨v, rfl, ?_, h⟩
    have c1 : v.toNat % 9223372036854775808 ≤ 9218868437227405312 := Nat.le_of_ble_eq_true c
    show v &&& 0x7fffffffffffffff ≤ 0x7ff0000000000000
    rw [UInt64.le_iff_toNat_le, UInt64.toNat_and]
    show v.toNat &&& 9223372036854775807 ≤ 9218868437227405312
    have e := Nat.and_two_pow_sub_one_eq_mod v.toNat 63
    rw [show (2 : Nat) ^ 63 = 9223372036854775808 by decide, show 9223372036854775808 - 1 = 9223372036854775807 by decide] at e
    rw [e]; exact c1
  · rw [if_neg c] at h; cases h
