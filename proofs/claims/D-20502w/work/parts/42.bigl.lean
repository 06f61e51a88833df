/-! plain laws of BigInteger: words as numbers; each function of part 18 reckons with whole numbers (Bg) -/
/-- an int as an unsigned word -/
def wd (x : Int32) : Nat := x.toUInt32.toNat
def uL (x : Int64) : Nat := x.toUInt64.toNat
theorem wd_lt (x : Int32) : wd x < 4294967296 := x.toUInt32.toNat_lt
theorem uL_lt (x : Int64) : uL x < 18446744073709551616 := x.toUInt64.toNat_lt
theorem wd_inj {x y : Int32} (h : wd x = wd y) : x = y := by
  have h1 : x.toUInt32 = y.toUInt32 := UInt32.toNat_inj.mp h
  have h2 : x.toUInt32.toInt32 = y.toUInt32.toInt32 := by rw [h1]
  simpa using h2
theorem wd_0 : wd 0 = 0 := rfl
theorem wd_pos {x : Int32} (h : x ≠ 0) : 0 < wd x := by
  rcases Nat.eq_zero_or_pos (wd x) with e | e
  · exact absurd (wd_inj (e.trans wd_0.symm)) h
  · exact e
theorem ne_of_wd {x : Int32} (h : 0 < wd x) : x ≠ 0 := fun e => by rw [e, wd_0] at h; omega
theorem wd_l2i (v : Int64) : wd v.toInt32 = uL v % 4294967296 := by
  unfold wd uL
  have : v.toInt32.toUInt32 = v.toUInt64.toUInt32 := by
    apply UInt32.toBitVec_inj.mp
    show v.toInt32.toBitVec = v.toUInt64.toUInt32.toBitVec
    rw [Int64.toBitVec_toInt32, UInt64.toBitVec_toUInt32]
    apply BitVec.eq_of_toNat_eq
    rw [BitVec.toNat_signExtend]
    simp
  rw [this, UInt64.toNat_toUInt32]
theorem uL_and (x : Int32) : uL (x.toInt64 &&& 4294967295) = wd x := by
  unfold wd uL
  have h1 : (x.toInt64 &&& 4294967295).toUInt64.toNat = x.toInt64.toUInt64.toNat % 2^32 := by
    rw [Int64.toUInt64_and, UInt64.toNat_and]
    exact Nat.and_two_pow_sub_one_eq_mod _ 32
  rw [h1]
  have h2 : x.toInt64.toUInt64.toNat % 2^32 = x.toInt64.toInt32.toUInt32.toNat := (wd_l2i x.toInt64).symm
  rw [h2]; simp
theorem uL_add (a b : Int64) : uL (a + b) = (uL a + uL b) % 18446744073709551616 := by
  unfold uL; rw [Int64.toUInt64_add, UInt64.toNat_add]
theorem uL_mul (a b : Int64) : uL (a * b) = (uL a * uL b) % 18446744073709551616 := by
  unfold uL; rw [Int64.toUInt64_mul, UInt64.toNat_mul]
theorem uL_shr32 (v : Int64) : uL ((v.toUInt64 >>> ((32 : Int32).toInt64.toUInt64 &&& Int64.toUInt64 63)).toInt64) = uL v / 4294967296 := by
  unfold uL
  rw [UInt64.toUInt64_toInt64, UInt64.toNat_shiftRight]
  have : ((32 : Int32).toInt64.toUInt64 &&& Int64.toUInt64 63).toNat % 64 = 32 := by decide
  rw [this, Nat.shiftRight_eq_div_pow]
theorem nI_and31 {k : Nat} (hk : k < 32) : (nI k &&& 31).toUInt32.toNat = k := by
  have : ∀ k : Fin 32, (nI k &&& 31).toUInt32.toNat = k := by decide
  exact this ⟨k, hk⟩
theorem nI_and31' {k : Nat} (hk : k < 32) : ((nI k).toUInt32 &&& Int32.toUInt32 31).toNat = k := nI_and31 hk
theorem wd_shl (x : Int32) {k : Nat} (hk : k < 32) : wd (x <<< (nI k &&& 31)) = wd x * 2 ^ k % 4294967296 := by
  unfold wd
  have e : (x <<< (nI k &&& 31)).toUInt32 = x.toUInt32 <<< (nI k &&& 31).toUInt32 := by
    apply UInt32.toBitVec_inj.mp
    show (x <<< (nI k &&& 31)).toBitVec = _
    rw [Int32.toBitVec_shiftLeft, UInt32.toBitVec_shiftLeft]
    have : ∀ k : Fin 32, (nI k &&& 31).toBitVec.smod 32 = (nI k &&& 31).toUInt32.toBitVec % 32 := by decide
    rw [this ⟨k, hk⟩]; rfl
  rw [e, UInt32.toNat_shiftLeft, nI_and31 hk, Nat.mod_eq_of_lt hk, Nat.shiftLeft_eq]
theorem wd_shr (x : Int32) {k : Nat} (hk : k < 32) : wd ((x.toUInt32 >>> ((nI k).toUInt32 &&& Int32.toUInt32 31)).toInt32) = wd x / 2 ^ k := by
  unfold wd
  rw [UInt32.toUInt32_toInt32, UInt32.toNat_shiftRight, nI_and31' hk, Nat.mod_eq_of_lt hk, Nat.shiftRight_eq_div_pow]
theorem wd_or (x y : Int32) : wd (x ||| y) = wd x ||| wd y := by unfold wd; rw [Int32.toUInt32_or, UInt32.toNat_or]
theorem wd_nI {n : Nat} (h : n < 4294967296) : wd (nI n) = n := by
  unfold wd nI
  have : (Int32.ofNat n).toUInt32 = UInt32.ofNat n := rfl
  rw [this, UInt32.toNat_ofNat_of_lt' h]
/-- the combinators, named by what they do -/
theorem lt_eq {α β : Type} (a : α) (k : α → β) : lt a k = k a := by
  have h : lt a k = k a := rfl
  exact h.trans rfl
theorem gd_in {β : Type} {n i : Nat} {j : Int32} {k : Nat → Option β} (hj : j = nI i) (hi : i < n) (hn : n ≤ 2147483648) : gd n j k = k i := by
  unfold gd
  rw [frc_eq, b_rec]
  have : j.toUInt32.toNat = i := by rw [hj]; exact wd_nI (by omega)
  rw [this, if_pos (Nat.blt_eq.mpr hi)]
theorem gd_0 {β : Type} {n : Nat} {k : Nat → Option β} (hi : 0 < n) (hn : n ≤ 2147483648) : gd n 0 k = k 0 := gd_in (i := 0) rfl hi hn
theorem gd_1 {β : Type} {n : Nat} {k : Nat → Option β} (hi : 1 < n) (hn : n ≤ 2147483648) : gd n 1 k = k 1 := gd_in (i := 1) rfl hi hn
theorem gl_in {β : Type} {b i : Nat} {j : Int32} {k : Nat → Option β} (hj : j = nI i) (hi : i ≤ b) (hn : b < 2147483648) : gl b j k = k i := gd_in hj (by omega) (by omega)
theorem ask_in {β : Type} {b : Bool} {k : Option β} (h : b = true) : ask b k = k := by subst h; rfl
theorem nI_sub {a b : Nat} (h : b ≤ a) : nI a - nI b = nI (a - b) := by
  have : nI a = nI (a - b) + nI b := by rw [nI_add, Nat.sub_add_cancel h]
  rw [this, Int32.add_sub_cancel]
theorem nI_m1 {a : Nat} (h : 0 < a) : nI a + (-1) = nI (a - 1) := by
  have : nI a = nI (a - 1) + 1 := by rw [show (1 : Int32) = nI 1 from rfl, nI_add, Nat.sub_add_cancel h]
  rw [this, Int32.add_assoc]; simp
theorem nI_s1 {a : Nat} (h : 0 < a) : nI a - 1 = nI (a - 1) := nI_sub (b := 1) h
theorem nI_a1 (a : Nat) : nI a + 1 = nI (a + 1) := nI_add a 1
theorem ite_leI {α : Type} {a b : Nat} {x y : α} (ha : a < 2147483648) (hb : b < 2147483648) : (if nI a ≤ nI b then x else y) = if a ≤ b then x else y := by
  by_cases c : a ≤ b
  · rw [if_pos c, if_pos ((nI_leI ha hb).mpr c)]
  · rw [if_neg c, if_neg (fun z => c ((nI_leI ha hb).mp z))]
theorem ite_ltI {α : Type} {a b : Nat} {x y : α} (ha : a < 2147483648) (hb : b < 2147483648) : (if nI a < nI b then x else y) = if a < b then x else y := by
  by_cases c : a < b
  · rw [if_pos c, if_pos ((nI_ltI ha hb).mpr c)]
  · rw [if_neg c, if_neg (fun z => c ((nI_ltI ha hb).mp z))]
theorem nI_0le {a : Nat} (ha : a < 2 ^ 31) : (nI a ≤ 0) = (a = 0) := by
  rw [show (0 : Int32) = nI 0 from rfl, nI_leI ha (by decide)]; simp
theorem nI_lt0 {a : Nat} (ha : a < 2 ^ 31) : (nI a < 0) = False := by
  rw [show (0 : Int32) = nI 0 from rfl, nI_ltI ha (by decide)]; simp
theorem m1_lt0 : ((-1 : Int32) < 0) := by decide
theorem nI_m1' : nI 0 + (-1) = -1 := by decide
theorem nI_s1' : nI 0 - 1 = -1 := by decide
/-- loops: a measure goes down -/
def lpG {σ ρ : Type} (I : Nat → σ → Prop) (P : ρ → Prop) (k : Nat) : Sum σ ρ → Prop
  | .inl y => ∃ k', k = k' + 1 ∧ I k' y
  | .inr o => P o
theorem lp_inv {σ ρ : Type} {F : σ → Option (Sum σ ρ)} (I : Nat → σ → Prop) (P : ρ → Prop) (hstep : ∀ k x, I k x → ∃ z, F x = some z ∧ lpG I P k z) :
    ∀ (k n : Nat) (x : σ), k < n → I k x → ∃ o, lp n F x = some o ∧ P o := by
  intro k n
  induction n generalizing k with
  | zero => intro x h; omega
  | succ n ih =>
    intro x h hI
    obtain ⟨z, hz, hG⟩ := hstep k x hI
    cases z with
    | inl y =>
      obtain ⟨k', rfl, hI'⟩ := hG
      rw [lp_inl hz]
      exact ih k' y (by omega) hI'
    | inr o => exact ⟨o, lp_inr hz, hG⟩
theorem lp_bind {σ ρ β : Type} {F : σ → Option (Sum σ ρ)} {n : Nat} {x0 : σ} {K : ρ → Option β} {Q : β → Prop} (I : Nat → σ → Prop) (P : ρ → Prop) (k : Nat) (hk : k < n) (h0 : I k x0)
    (hstep : ∀ k x, I k x → ∃ z, F x = some z ∧ lpG I P k z) (hK : ∀ o, P o → ∃ g, K o = some g ∧ Q g) : ∃ g, Option.bind (lp n F x0) K = some g ∧ Q g := by
  obtain ⟨o, ho, hP⟩ := lp_inv I P hstep k n x0 hk h0
  rw [ho]
  exact hK o hP
theorem up_eq {α : Type} (f : Nat → α) (i : Nat) (z : α) : va_up f i z i = z := by unfold va_up; rw [if_pos rfl]
theorem up_ne {α : Type} (f : Nat → α) {i j : Nat} (z : α) (h : j ≠ i) : va_up f i z j = f j := by unfold va_up; rw [if_neg h]
/-- the value of the first n words, the first one the highest -/
def bv (c : Nat → Int32) : Nat → Nat
  | 0 => 0
  | n + 1 => bv c n * 4294967296 + wd (c n)
theorem bv_congr {c d : Nat → Int32} : ∀ {n : Nat}, (∀ i, i < n → c i = d i) → bv c n = bv d n
  | 0, _ => rfl
  | n + 1, h => by
    show bv c n * 4294967296 + wd (c n) = bv d n * 4294967296 + wd (d n)
    rw [bv_congr (fun i hi => h i (by omega)), h n (by omega)]
theorem bv_lt (c : Nat → Int32) : ∀ n : Nat, bv c n < 4294967296 ^ n
  | 0 => by show 0 < 1; decide
  | n + 1 => by
    have h1 := bv_lt c n
    have h2 := wd_lt (c n)
    show bv c n * 4294967296 + wd (c n) < 4294967296 ^ n * 4294967296
    have : (bv c n + 1) * 4294967296 ≤ 4294967296 ^ n * 4294967296 := Nat.mul_le_mul_right _ h1
    omega
theorem bv_split (c : Nat → Int32) (n : Nat) : ∀ m : Nat, bv c (n + m) = bv c n * 4294967296 ^ m + bv (fun i => c (n + i)) m
  | 0 => by simp [bv]
  | m + 1 => by
    show bv c (n + m) * 4294967296 + wd (c (n + m)) = bv c n * (4294967296 ^ m * 4294967296) + (bv (fun i => c (n + i)) m * 4294967296 + wd (c (n + m)))
    rw [bv_split c n m, Nat.add_mul, Nat.mul_assoc]; omega
theorem bv_zero {c : Nat → Int32} : ∀ {n : Nat}, (∀ i, i < n → c i = 0) → bv c n = 0
  | 0, _ => rfl
  | n + 1, h => by
    show bv c n * 4294967296 + wd (c n) = 0
    rw [bv_zero (fun i hi => h i (by omega)), h n (by omega), wd_0]
theorem bv_up_ge {c : Nat → Int32} {i n : Nat} {x : Int32} (h : n ≤ i) : bv (va_up c i x) n = bv c n := bv_congr fun j hj => by unfold va_up; rw [if_neg (by omega)]
/-- the value of the last m of n words -/
def tv (c : Nat → Int32) (n m : Nat) : Nat := bv (fun i => c (n - m + i)) m
theorem tv_all (c : Nat → Int32) (n : Nat) : tv c n n = bv c n := by unfold tv; rw [Nat.sub_self]; exact bv_congr fun i _ => by rw [Nat.zero_add]
theorem bv_cons (c : Nat → Int32) (m : Nat) : bv c (m + 1) = wd (c 0) * 4294967296 ^ m + bv (fun i => c (i + 1)) m := by
  have h := bv_split c 1 m
  rw [Nat.add_comm] at h
  rw [h]
  have e1 : bv c 1 = wd (c 0) := by show 0 * 4294967296 + wd (c 0) = _; omega
  rw [e1]
  congr 1
  exact bv_congr fun i _ => by rw [Nat.add_comm]
theorem tv_zero (c : Nat → Int32) (n : Nat) : tv c n 0 = 0 := rfl
theorem tv_succ (c : Nat → Int32) {n m : Nat} (h : m < n) : tv c n (m + 1) = wd (c (n - (m + 1))) * 4294967296 ^ m + tv c n m := by
  unfold tv
  rw [bv_cons]
  congr 1
  exact bv_congr fun i _ => by
    have : n - (m + 1) + (i + 1) = n - m + i := by omega
    rw [this]
theorem tv_lt (c : Nat → Int32) (n m : Nat) : tv c n m < 4294967296 ^ m := bv_lt _ _
theorem tv_congr {c d : Nat → Int32} {n m : Nat} (hm : m ≤ n) (h : ∀ i, n - m ≤ i → i < n → c i = d i) : tv c n m = tv d n m := bv_congr fun i hi => h _ (by omega) (by omega)
theorem tv_up {c : Nat → Int32} {n m i : Nat} {x : Int32} (hm : m ≤ n) (h : i < n - m) : tv (va_up c i x) n m = tv c n m := tv_congr hm fun j h1 h2 => by unfold va_up; rw [if_neg (by omega)]
theorem tv_new {c : Nat → Int32} {n m : Nat} {x : Int32} (h : m < n) : tv (va_up c (n - (m + 1)) x) n (m + 1) = wd x * 4294967296 ^ m + tv c n m := by
  rw [tv_succ _ h, tv_up (by omega) (by omega)]
  congr 2
  unfold va_up; rw [if_pos rfl]
theorem bv_tv (c : Nat → Int32) {n m : Nat} (h : m ≤ n) : bv c n = bv c (n - m) * 4294967296 ^ m + tv c n m := by
  have := bv_split c (n - m) m
  rw [Nat.sub_add_cancel h] at this
  exact this
/-- the upper word isn't 0: the value has its full length -/
theorem bv_low {c : Nat → Int32} {n : Nat} (h : c 0 ≠ 0) : 4294967296 ^ n ≤ bv c (n + 1) := by
  rw [bv_cons]
  have := wd_pos h
  have : 1 * 4294967296 ^ n ≤ wd (c 0) * 4294967296 ^ n := Nat.mul_le_mul_right _ this
  omega
/-- a whole number as BigInteger keeps it: its sign, its words (at most N), no leading 0 -/
def Bg (N : Nat) (v : Int) (s : Int32) (n : Nat) (c : Nat → Int32) : Prop :=
  n ≤ N ∧ bv c n = v.natAbs ∧ (0 < n → c 0 ≠ 0) ∧ s = (if v = 0 then 0 else if 0 < v then 1 else -1)
theorem Bg.zero {N n : Nat} {s : Int32} {c : Nat → Int32} (h : Bg N 0 s n c) : s = 0 ∧ n = 0 := by
  obtain ⟨h1, h2, h3, h4⟩ := h
  refine ⟨h4, ?_⟩
  rcases Nat.eq_zero_or_pos n with e | e
  · exact e
  · obtain ⟨m, rfl⟩ : ∃ m, n = m + 1 := ⟨n - 1, by omega⟩
    have h5 := bv_low (n := m) (h3 e)
    rw [h2] at h5
    have : 0 < 4294967296 ^ m := Nat.pow_pos (by decide)
    have : (0 : Int).natAbs = 0 := rfl
    omega
theorem Bg.ne {N n : Nat} {v : Int} {s : Int32} {c : Nat → Int32} (h : Bg N v s n c) (hv : v ≠ 0) : 0 < n ∧ c 0 ≠ 0 ∧ s = (if 0 < v then 1 else -1) ∧ s ≠ 0 := by
  obtain ⟨h1, h2, h3, h4⟩ := h
  rw [if_neg hv] at h4
  have hn : 0 < n := by
    rcases Nat.eq_zero_or_pos n with e | e
    · subst e
      have : bv c 0 = 0 := rfl
      omega
    · exact e
  refine ⟨hn, h3 hn, h4, ?_⟩
  rw [h4]
  by_cases c : 0 < v
  · rw [if_pos c]; decide
  · rw [if_neg c]; decide
theorem Bg.of0 (N : Nat) (c : Nat → Int32) : Bg N 0 0 0 c := ⟨Nat.zero_le _, rfl, fun h => absurd h (by decide), rfl⟩
theorem Bg.mono {N M n : Nat} {v : Int} {s : Int32} {c : Nat → Int32} (h : Bg N v s n c) (hm : n ≤ M) : Bg M v s n c := ⟨hm, h.2⟩
/-- the number of words by the value -/
theorem len_of {c : Nat → Int32} {n k : Nat} (h : 0 < n → c 0 ≠ 0) (hv : bv c n < 4294967296 ^ k) : n ≤ k := by
  rcases Nat.eq_zero_or_pos n with e | e
  · omega
  · obtain ⟨m, rfl⟩ : ∃ m, n = m + 1 := ⟨n - 1, by omega⟩
    have h5 := bv_low (n := m) (h e)
    have h6 : 4294967296 ^ m < 4294967296 ^ k := by omega
    have := (Nat.pow_lt_pow_iff_right (a := 4294967296) (by decide)).mp h6
    omega
theorem len_ge {c : Nat → Int32} {n k : Nat} (hv : 4294967296 ^ k ≤ bv c n) : k < n := by
  have h1 := bv_lt c n
  have h6 : 4294967296 ^ k < 4294967296 ^ n := by omega
  exact (Nat.pow_lt_pow_iff_right (a := 4294967296) (by decide)).mp h6
theorem init2_ok {n : Nat} {c : Nat → Int32} {s : Int32} (h0 : 0 < n) (h : n ≤ 12) : f_J16_init_2 n c s = some s := by
  unfold f_J16_init_2 f_J9_init
  simp only [Option.bind_some, lt_eq]
  have e1 : ¬ nI n = 0 := by rw [show (0 : Int32) = nI 0 from rfl, nI_eq (by omega) (by decide)]; omega
  have e2 : nI n < 67108864 := by rw [show (67108864 : Int32) = nI 67108864 from rfl, nI_ltI (by omega) (by decide)]; omega
  rw [if_neg e1, if_pos e2]
/-- int of a long that isn't negative, and its value -/
theorem uL_of_nonneg {x : Int64} (h : 0 ≤ x.toInt) : (uL x : Int) = x.toInt := by
  unfold uL
  have h1 : x.toInt = x.toBitVec.toInt := rfl
  have h2 : x.toUInt64.toNat = x.toBitVec.toNat := rfl
  rw [h2, h1]
  rw [h1] at h
  rw [BitVec.toInt_eq_toNat_cond] at h ⊢
  split at h
  · rw [if_pos (by assumption)]
  · have := x.toBitVec.isLt
    omega
theorem lcmp0 (x : Int64) : lg_cmp x 0 = if 0 < x.toInt then 1 else if x.toInt = 0 then 0 else -1 := by
  unfold lg_cmp
  have e1 : (x > 0) = (0 < x.toInt) := by rw [gt_iff_lt, Int64.lt_iff_toInt_lt]; rfl
  have e2 : (x = 0) = (x.toInt = 0) := by
    rw [← Int64.toInt_inj]; rfl
  simp only [e1, e2]
theorem initK (s : Int32) (y : Int64) (hy : 0 < y.toInt) : ∃ n c, (if ((y.toUInt64 >>> ((32 : Int32).toInt64.toUInt64 &&& Int64.toUInt64 63)).toInt64).toInt32 = 0 then some (s, 1, va_up (fun _ => 0) 0 y.toInt32)
    else some (s, 2, va_up (va_up (fun _ => (0 : Int32)) 0 ((y.toUInt64 >>> ((32 : Int32).toInt64.toUInt64 &&& Int64.toUInt64 63)).toInt64).toInt32) 1 y.toInt32)) = some (s, n, c) ∧ n ≤ 2 ∧ bv c n = uL y ∧ (0 < n → c 0 ≠ 0) := by
  have hu := uL_lt y
  have hp : 0 < uL y := by have := uL_of_nonneg (x := y) (by omega); omega
  have hh : wd ((y.toUInt64 >>> ((32 : Int32).toInt64.toUInt64 &&& Int64.toUInt64 63)).toInt64).toInt32 = uL y / 4294967296 := by
    rw [wd_l2i, uL_shr32]; omega
  have hl := wd_l2i y
  by_cases c : ((y.toUInt64 >>> ((32 : Int32).toInt64.toUInt64 &&& Int64.toUInt64 63)).toInt64).toInt32 = 0
  · rw [if_pos c]
    rw [c, wd_0] at hh
    refine ⟨_, _, rfl, by decide, ?_, fun _ => ne_of_wd ?_⟩
    · show 0 * 4294967296 + wd y.toInt32 = _
      rw [hl]; omega
    · show 0 < wd y.toInt32
      rw [hl]; omega
  · rw [if_neg c]
    refine ⟨_, _, rfl, by decide, ?_, fun _ => c⟩
    show (0 * 4294967296 + wd _) * 4294967296 + wd y.toInt32 = _
    show (0 * 4294967296 + wd ((y.toUInt64 >>> ((32 : Int32).toInt64.toUInt64 &&& Int64.toUInt64 63)).toInt64).toInt32) * 4294967296 + wd y.toInt32 = _
    rw [hh, hl]; omega
theorem neg_toInt {x : Int64} (h : x.toInt ≠ -9223372036854775808) : (-x).toInt = -x.toInt := by
  have h1 := Int64.toInt_lt x
  have h2 := Int64.le_toInt x
  rw [Int64.toInt_neg]
  exact Int.bmod_eq_of_le (by omega) (by omega)
theorem init_ok {x : Int64} (hx : x.toInt ≠ 0) (hm : x.toInt ≠ -9223372036854775808) : ∃ s n c, f_J16_init x = some (s, n, c) ∧ Bg 2 x.toInt s n c := by
  unfold f_J16_init f_J9_init
  simp only [Option.bind_some, lt_eq, lti_eq, ltl_eq]
  rw [lcmp0]
  by_cases c0 : 0 < x.toInt
  · rw [if_pos c0, if_pos (by decide)]
    obtain ⟨n, c, e, h1, h2, h3⟩ := initK 1 x c0
    refine ⟨1, n, c, e, h1, ?_, h3, ?_⟩
    · rw [h2]; have := uL_of_nonneg (x := x) (by omega); omega
    · rw [if_neg hx, if_pos c0]
  · rw [if_neg c0, if_neg hx, if_neg (by decide)]
    have e2 := neg_toInt hm
    obtain ⟨n, c, e, h1, h2, h3⟩ := initK (-1) (-x) (by omega)
    refine ⟨-1, n, c, e, h1, ?_, h3, ?_⟩
    · rw [h2]; have := uL_of_nonneg (x := -x) (by omega); omega
    · rw [if_neg hx, if_neg c0]
theorem lcmp_lit (x y : Int64) : lg_cmp x y = if y.toInt < x.toInt then 1 else if x.toInt = y.toInt then 0 else -1 := by
  unfold lg_cmp
  have e1 : (x > y) = (y.toInt < x.toInt) := by rw [gt_iff_lt, Int64.lt_iff_toInt_lt]
  have e2 : (x = y) = (x.toInt = y.toInt) := by rw [Int64.toInt_inj]
  simp only [e1, e2]
theorem valueOf_ok {x : Int64} (hx : x.toInt = 0 ∨ 16 < x.toInt ∨ (x.toInt < -16 ∧ x.toInt ≠ -9223372036854775808)) : ∃ s n c, f_J16_valueOf x = some (s, n, c) ∧ Bg 2 x.toInt s n c := by
  unfold f_J16_valueOf
  simp only [lt_eq, lti_eq]
  rw [lcmp0, lcmp_lit x 16, lcmp_lit x (-16)]
  rw [show (16 : Int64).toInt = 16 from rfl, show (-16 : Int64).toInt = -16 from rfl]
  by_cases h0 : x.toInt = 0
  · rw [h0]
    exact ⟨0, 0, fun _ => 0, rfl, Bg.of0 _ _⟩
  · obtain ⟨s, n, c, e, hb⟩ := init_ok h0 (by omega)
    refine ⟨s, n, c, ?_, hb⟩
    simp only [e, Option.bind_some]
    rcases hx with h | h | h
    · exact absurd h h0
    · rw [if_pos (show 0 < x.toInt by omega), if_pos h]; rfl
    · rw [if_neg (show ¬ 0 < x.toInt by omega), if_neg h0, if_neg (show ¬ -16 < x.toInt by omega), if_neg (show ¬ x.toInt = -16 by omega)]; rfl
theorem nI_shr5 {k : Nat} (hk : k < 2147483648) : ((nI k).toUInt32 >>> ((5 : Int32).toUInt32 &&& Int32.toUInt32 31)).toInt32 = nI (k / 32) := by
  apply wd_inj
  have := wd_shr (nI k) (k := 5) (by decide)
  rw [show (nI 5) = (5 : Int32) from rfl] at this
  rw [this, wd_nI (by omega), wd_nI (by omega)]
theorem nI_mod32 {k : Nat} (hk : k < 2147483648) : nI k &&& 31 = nI (k % 32) := by
  apply wd_inj
  rw [wd_nI (by omega)]
  unfold wd
  rw [Int32.toUInt32_and, UInt32.toNat_and]
  have h1 := wd_nI (n := k) (by omega)
  unfold wd at h1
  rw [h1]
  exact Nat.and_two_pow_sub_one_eq_mod _ 5
theorem nat_or_add {a b r : Nat} (hb : b < 2 ^ r) : a * 2 ^ r ||| b = a * 2 ^ r + b := by
  rw [← Nat.shiftLeft_eq, Nat.shiftLeft_add_eq_or_of_lt hb]
theorem pow_32 {r : Nat} (hr : r ≤ 32) : 2 ^ (32 - r) * 2 ^ r = 4294967296 := by
  rw [← Nat.pow_add, Nat.sub_add_cancel hr]
theorem shl_mod {x r : Nat} (hr : r ≤ 32) : x * 2 ^ r % 4294967296 = (x % 2 ^ (32 - r)) * 2 ^ r := by
  rw [← pow_32 hr, Nat.mul_mod_mul_right]
theorem shl_div {x r : Nat} (hr : r ≤ 32) : x * 2 ^ r / 4294967296 = x / 2 ^ (32 - r) := by
  rw [← pow_32 hr, Nat.mul_div_mul_right _ _ (Nat.pow_pos (by decide))]
theorem wd_shl_or (x y : Int32) {r : Nat} (hr : 0 < r) (hr2 : r < 32) :
    wd (x <<< (nI r &&& 31) ||| (y.toUInt32 >>> ((nI (32 - r)).toUInt32 &&& Int32.toUInt32 31)).toInt32) = wd x * 2 ^ r % 4294967296 + wd y / 2 ^ (32 - r) := by
  rw [wd_or, wd_shl x hr2, wd_shr y (by omega), shl_mod (by omega)]
  apply nat_or_add
  have h := wd_lt y
  rw [← pow_32 (r := r) (by omega)] at h
  exact Nat.div_lt_of_lt_mul h
theorem shl_step {a x y r : Nat} (hr : r ≤ 32) : (a * 2 ^ r + x / 2 ^ (32 - r)) * 4294967296 + (x * 2 ^ r % 4294967296 + y) = (a * 4294967296 + x) * 2 ^ r + y := by
  have h1 : x * 2 ^ r = x / 2 ^ (32 - r) * 4294967296 + x * 2 ^ r % 4294967296 := by
    have := Nat.div_add_mod (x * 2 ^ r) 4294967296
    rw [shl_div hr] at this
    omega
  rw [Nat.add_mul, Nat.add_mul, Nat.mul_right_comm, h1]
  omega
theorem slw_ok {m n i r : Nat} {f c : Nat → Int32} (hr : 0 < r) (hr2 : r < 32) (hn : 0 < n) (hn2 : n ≤ 12) (hi : i ≤ 1) (hm : i + n ≤ m) (hm2 : m ≤ 12)
    (h0 : bv f i = wd (c 0) / 2 ^ (32 - r)) (hz : ∀ k, i ≤ k → f k = 0) :
    ∃ g, f_J16_shiftLeftImplWorker m f n c (nI i) (nI r) (nI (n - 1)) = some g ∧ bv g (i + (n - 1)) = bv c (n - 1) * 2 ^ r + wd (c (n - 1)) / 2 ^ (32 - r) ∧ (∀ k, i + (n - 1) ≤ k → g k = 0) ∧ (0 < i → g 0 = f 0) := by
  unfold f_J16_shiftLeftImplWorker
  simp only [lt_eq, lti_eq]
  refine lp_bind (fun k x => ∃ j, j + k = n - 1 ∧ x.2.1 = nI (i + j) ∧ x.2.2 = nI j ∧ bv x.1 (i + j) = bv c j * 2 ^ r + wd (c j) / 2 ^ (32 - r) ∧ (∀ k, i + j ≤ k → x.1 k = 0) ∧ (0 < i → x.1 0 = f 0))
    (fun g => bv g (i + (n - 1)) = bv c (n - 1) * 2 ^ r + wd (c (n - 1)) / 2 ^ (32 - r) ∧ (∀ k, i + (n - 1) ≤ k → g k = 0) ∧ (0 < i → g 0 = f 0))
    (n - 1) (by omega) ⟨0, by omega, rfl, rfl, by rw [Nat.add_zero, h0]; simp [bv], fun k hk => hz k (by omega), fun _ => rfl⟩ ?_ (fun o ho => ⟨o, rfl, ho⟩)
  intro k x hI
  obtain ⟨g, vi, vj⟩ := x
  obtain ⟨j, e1, e2, e3, e4, e5, e6⟩ := hI
  dsimp only at e2 e3 e4 e5 e6 ⊢
  by_cases hd : k = 0
  · have hj : j = n - 1 := by omega
    subst hj
    rw [e3, if_pos ((nI_leI (by omega) (by omega)).mpr (Nat.le_refl _))]
    exact ⟨_, rfl, e4, e5, e6⟩
  · rw [if_neg (by rw [e3, nI_leI (by omega) (by omega)]; omega), gd_in e3 (by omega) (by omega), gd_in (i := j + 1) (by rw [e3, nI_a1]) (by omega) (by omega), gd_in e2 (by omega) (by omega)]
    refine ⟨_, rfl, k - 1, by omega, j + 1, by omega, ?_, ?_, ?_, ?_, ?_⟩
    · show vi + 1 = _
      rw [e2, nI_a1]; rfl
    · show vj + 1 = _
      rw [e3, nI_a1]
    · show bv (va_up g (i + j) _) (i + j) * 4294967296 + wd (va_up g (i + j) _ (i + j)) = _
      rw [bv_up_ge (Nat.le_refl _), e4, up_eq, show (32 : Int32) - nI r = nI (32 - r) from nI_sub (a := 32) (by omega), wd_shl_or _ _ hr hr2, shl_step (by omega)]
      rfl
    · intro q hq
      show va_up g (i + j) _ q = 0
      rw [up_ne _ _ (by omega)]
      exact e5 q (by omega)
    · intro hi0
      show va_up g (i + j) _ 0 = _
      rw [up_ne _ _ (by omega)]
      exact e6 hi0
theorem cfi_ok {a b n : Nat} (h1 : a ≤ b) (h2 : b ≤ n) (hn : n < 2147483648) : f_J17_checkFromToIndex (nI a) (nI b) (nI n) = some (nI a) := by
  unfold f_J17_checkFromToIndex f_J18_checkFromToIndex
  simp only [lt_eq]
  rw [if_neg (by rw [nI_lt0 (by omega)]; exact id), if_neg (by rw [nI_ltI (by omega) (by omega)]; omega), if_pos (by rw [nI_leI (by omega) (by omega)]; omega)]
  rfl
theorem bv_pad {g : Nat → Int32} {a q : Nat} (hz : ∀ k, a ≤ k → g k = 0) : bv g (a + q) = bv g a * 4294967296 ^ q := by
  rw [bv_split, bv_zero (c := fun i => g (a + i)) (n := q) (fun i _ => hz _ (by omega)), Nat.add_zero]
theorem top_ne {g : Nat → Int32} {n : Nat} (h : 4294967296 ^ n ≤ bv g (n + 1)) : g 0 ≠ 0 := by
  intro e
  rw [bv_cons, e, wd_0] at h
  have := bv_lt (fun i => g (i + 1)) n
  omega
theorem pow_qr (k : Nat) : 2 ^ k = 2 ^ (k % 32) * 4294967296 ^ (k / 32) := by
  have h : (4294967296 : Nat) = 2 ^ 32 := by decide
  rw [h, ← Nat.pow_mul, ← Nat.pow_add, Nat.mod_add_div]
theorem shl2_ok {n k : Nat} {c : Nat → Int32} (hn : 0 < n) (hc : c 0 ≠ 0) (hk0 : 0 < k) (hk : n + k / 32 + 1 ≤ 12) : ∃ m g, f_J16_shiftLeft_2 n c (nI k) = some (m, g) ∧ m ≤ n + k / 32 + 1 ∧ bv g m = bv c n * 2 ^ k ∧ g 0 ≠ 0 ∧ 0 < m := by
  unfold f_J16_shiftLeft_2
  simp only [lt_eq, lti_eq]
  rw [nI_shr5 (by omega), nI_mod32 (by omega), pow_qr k, ← Nat.mul_assoc]
  obtain ⟨q, hq⟩ : ∃ q, q = k / 32 := ⟨_, rfl⟩
  obtain ⟨r, hr⟩ : ∃ r, r = k % 32 := ⟨_, rfl⟩
  rw [← hq, ← hr]
  rw [← hq] at hk
  have hr2 : r < 32 := by omega
  by_cases c0 : r = 0
  · rw [if_pos (by rw [c0]; rfl), c0, Nat.pow_zero, Nat.mul_one]
    rw [gl_in (i := n + q) (nI_add n q) (by omega) (by omega), gd_0 (by omega) (by omega), gd_0 (by omega) (by omega), gd_in (i := n) rfl (by omega) (by omega), ask_in (by simp [Nat.ble_eq])]
    refine ⟨_, _, rfl, by omega, ?_, ?_, by omega⟩
    · rw [bv_pad (a := n)]
      · congr 1
        exact bv_congr fun i hi => by unfold va_cpy; rw [if_pos (by omega), Nat.zero_add, Nat.sub_zero]
      · intro i hi
        unfold va_cpy; rw [if_neg (by omega)]
    · unfold va_cpy; rw [if_pos (by omega), Nat.zero_add, Nat.sub_zero]; exact hc
  · have hv2 : ¬ nI r = 0 := by rw [show (0 : Int32) = nI 0 from rfl, nI_eq (by omega) (by decide)]; exact c0
    rw [if_neg hv2, gd_0 hn (by omega)]
    have e32 : (32 : Int32) - nI r = nI (32 - r) := nI_sub (a := 32) (by omega)
    rw [e32]
    have hhi := wd_shr (c 0) (k := 32 - r) (by omega)
    -- what goes on behind the new array's making
    have key : ∀ (m i : Nat) (f : Nat → Int32), i ≤ 1 → i + n + q = m → bv f i = wd (c 0) / 2 ^ (32 - r) → (∀ k, i ≤ k → f k = 0) → (0 < i → f 0 ≠ 0) → (i = 0 → 4294967296 ^ (n - 1) ≤ bv c n * 2 ^ r) →
        ∃ m' g, (((f_J17_checkFromToIndex 0 ((nI n - 1) + 1) (nI n)).bind fun o15 => (f_J17_checkFromToIndex (nI i) ((nI n - 1) + nI i + 1) (nI m)).bind fun o18 => (f_J16_shiftLeftImplWorker m f n c (nI i) (nI r) (nI n - 1)).bind fun o19 =>
          gd n (nI n - 1) fun i21 => gd m ((nI n - 1) + nI i) fun i24 => some (m, va_up o19 i24 (c i21 <<< (nI r &&& 31)))) : Option (Nat × (Nat → Int32))) = some (m', g) ∧ m' = m ∧ bv g m' = bv c n * 2 ^ r * 4294967296 ^ q ∧ g 0 ≠ 0 := by
      intro m i f hi hm h0 hz hf hlow
      rw [nI_s1 hn, nI_a1, show n - 1 + 1 = n by omega, nI_add, nI_a1, show f_J17_checkFromToIndex 0 (nI n) (nI n) = some (nI 0) from cfi_ok (a := 0) (by omega) (by omega) (by omega), Option.bind_some, cfi_ok (by omega) (by omega) (by omega), Option.bind_some]
      obtain ⟨g, e, g1, g2, g3⟩ := slw_ok (m := m) (n := n) (i := i) (r := r) (f := f) (c := c) (by omega) hr2 hn (by omega) hi (by omega) (by omega) h0 hz
      rw [e, Option.bind_some, gd_in (i := n - 1) rfl (by omega) (by omega), gd_in (i := n - 1 + i) rfl (by omega) (by omega)]
      have hval : bv (va_up g (n - 1 + i) (c (n - 1) <<< (nI r &&& 31))) (i + n) = bv c n * 2 ^ r := by
        obtain ⟨n', rfl⟩ : ∃ n', n = n' + 1 := ⟨n - 1, by omega⟩
        rw [show i + (n' + 1) = (i + n') + 1 by omega, show n' + 1 - 1 + i = i + n' by omega]
        rw [show n' + 1 - 1 = n' by omega] at g1 ⊢
        show bv (va_up g (i + n') _) (i + n') * 4294967296 + wd (va_up g (i + n') _ (i + n')) = (bv c n' * 4294967296 + wd (c n')) * 2 ^ r
        have := shl_step (a := bv c n') (x := wd (c n')) (y := 0) (r := r) (by omega)
        rw [bv_up_ge (Nat.le_refl _), g1, up_eq, wd_shl _ hr2]
        omega
      refine ⟨_, _, rfl, rfl, ?_, ?_⟩
      · rw [← hm, bv_pad (a := i + n), hval]
        intro k hk
        rw [up_ne _ _ (by omega)]
        exact g2 k (by omega)
      · by_cases ci : i = 0
        · apply top_ne (n := n - 1)
          have := hlow ci
          rw [← hval, ci] at this
          rw [show n - 1 + 1 = n by omega]
          rw [Nat.zero_add] at this
          rw [ci]
          exact this
        · by_cases cn : n - 1 + i = 0
          · omega
          · rw [up_ne _ _ (by omega), g3 (by omega)]
            exact hf (by omega)
    by_cases ch : ((c 0).toUInt32 >>> ((nI (32 - r)).toUInt32 &&& Int32.toUInt32 31)).toInt32 = 0
    · rw [if_pos ch, gl_in (i := n + q) (nI_add n q) (by omega) (by omega)]
      rw [ch, wd_0] at hhi
      obtain ⟨m', g, e, em, g1, g2⟩ := key (n + q) 0 (fun _ => 0) (by omega) (by omega) hhi (fun _ _ => rfl) (by omega) (fun _ => by
        obtain ⟨n', rfl⟩ : ∃ n', n = n' + 1 := ⟨n - 1, by omega⟩
        have h1 := bv_low (n := n') hc
        have h2 : 1 ≤ 2 ^ r := Nat.pow_pos (by decide)
        have := Nat.mul_le_mul_left (bv c (n' + 1)) h2
        rw [show n' + 1 - 1 = n' by omega]
        omega)
      exact ⟨m', g, e, by omega, g1, g2, by omega⟩
    · rw [if_neg ch, gl_in (i := n + q + 1) (by rw [nI_add, nI_a1]) (by omega) (by omega), gd_0 (by omega) (by omega)]
      obtain ⟨m', g, e, em, g1, g2⟩ := key (n + q + 1) 1 (va_up (fun _ => 0) 0 _) (by omega) (by omega) (by show 0 * 4294967296 + wd (va_up (fun _ => 0) 0 _ 0) = _; rw [up_eq, hhi]; omega) (fun k hk => up_ne _ _ (by omega)) (fun _ => by rw [up_eq]; exact ch) (by omega)
      exact ⟨m', g, e, by omega, g1, g2, by omega⟩
theorem shiftLeft_ok {N n k : Nat} {v : Int} {s : Int32} {c : Nat → Int32} (h : Bg N v s n c) (hk0 : 0 < k) (hk : N + k / 32 + 1 ≤ 12) : ∃ s' n' c', f_J16_shiftLeft s n c (nI k) = some (s', n', c') ∧ Bg (N + k / 32 + 1) (v * 2 ^ k) s' n' c' := by
  unfold f_J16_shiftLeft
  by_cases hv : v = 0
  · subst hv
    rw [if_pos h.zero.1, Int.zero_mul]
    exact ⟨_, _, _, rfl, Bg.of0 _ _⟩
  · obtain ⟨h1, h2, h3, h4⟩ := h.ne hv
    obtain ⟨g1, g2, g3, g4⟩ := h
    obtain ⟨m, g, e, e1, e2, e3, e4⟩ := shl2_ok (c := c) h1 h2 hk0 (by omega)
    rw [if_neg h4, if_neg (by rw [nI_0le (by omega)]; omega), e, Option.bind_some, init2_ok e4 (by omega)]
    refine ⟨_, _, _, rfl, by show m ≤ _; omega, ?_, fun _ => e3, ?_⟩
    · show bv g m = _
      rw [e2, g2, Int.natAbs_mul, Int.natAbs_pow]; rfl
    · have hp : (0 : Int) < 2 ^ k := Int.pow_pos (by decide)
      rw [h3]
      by_cases c0 : 0 < v
      · have := Int.mul_pos c0 hp
        rw [if_pos c0, if_neg (by omega), if_pos this]
      · have := Int.mul_neg_of_neg_of_pos (show v < 0 by omega) hp
        rw [if_neg c0, if_neg (by omega), if_neg (by omega)]
/-- an index that goes down to -1 -/
def dn (n t : Nat) : Int32 := if t < n then nI (n - 1 - t) else -1
theorem dn_step {n t : Nat} (h : t < n) : dn n t + (-1) = dn n (t + 1) := by
  unfold dn
  rw [if_pos h]
  by_cases c : t + 1 < n
  · rw [if_pos c, nI_m1 (by omega)]; congr 1
  · rw [if_neg c, show n - 1 - t = 0 by omega]; rfl
theorem dn_neg {n t : Nat} (hn : n < 2147483648) : (dn n t < 0) = (n ≤ t) := by
  unfold dn
  by_cases c : t < n
  · rw [if_pos c, nI_lt0 (by omega)]; simp; omega
  · rw [if_neg c]; simp; omega
theorem dn_in {n t : Nat} (h : t < n) : dn n t = nI (n - 1 - t) := by unfold dn; rw [if_pos h]
theorem dn_0 {n : Nat} (h : 0 < n) : nI (n - 1) = dn n 0 := by rw [dn_in h, Nat.sub_zero]
theorem dn_1 {n : Nat} (h : 0 < n) : nI (n - 1) - 1 = dn n 1 := by
  have := dn_step (n := n) (t := 0) h
  rw [← this, dn_in h, Nat.sub_zero, Int32.sub_eq_add_neg]
theorem mac_bound {x y z k : Nat} (hx : x < 4294967296) (hy : y < 4294967296) (hz : z < 4294967296) (hk : k < 4294967296) : x * y + z + k < 18446744073709551616 := by
  have := Nat.mul_le_mul (show x ≤ 4294967295 by omega) (show y ≤ 4294967295 by omega)
  omega
/-- the word that is stored and the carry -/
theorem mac {v : Int64} {n : Nat} (h : uL v = n) : wd v.toInt32 + uL ((v.toUInt64 >>> ((32 : Int32).toInt64.toUInt64 &&& Int64.toUInt64 63)).toInt64) * 4294967296 = n := by
  rw [wd_l2i, uL_shr32, h]; omega
theorem uL_0 : uL 0 = 0 := rfl
/-- the words' ring identity of a step -/
theorem mac_eq {A B C D P E : Nat} (low carry' w y x carry : Nat) (h : low + carry' * 4294967296 = y * x + w + carry) (hi : A + carry * P = B + C * x * E) (hP : P = D * E) :
    (low * P + A) + carry' * (P * 4294967296) = (w * P + B) + (y * D + C) * x * E := by
  have h2 : low * P + carry' * 4294967296 * P = (y * x + w + carry) * P := by rw [← h, Nat.add_mul]
  have h3 : carry' * (P * 4294967296) = carry' * 4294967296 * P := by rw [Nat.mul_comm P, Nat.mul_assoc]
  have h4 : (y * D + C) * x * E = y * x * P + C * x * E := by
    rw [hP, Nat.add_mul, Nat.add_mul]
    congr 1
    rw [Nat.mul_right_comm y D x, Nat.mul_assoc (y * x) D E]
  rw [h3, h4]
  have h5 : (y * x + w + carry) * P = y * x * P + w * P + carry * P := by rw [Nat.add_mul, Nat.add_mul]
  omega
theorem bn_pow (a b : Nat) : 4294967296 ^ (a + b) = 4294967296 ^ b * 4294967296 ^ a := by rw [Nat.pow_add, Nat.mul_comm]
set_option maxHeartbeats 1000000 in
theorem mul_ok {xn yn : Nat} {x y : Nat → Int32} (hx : 0 < xn) (hy : 0 < yn) (hm : xn + yn ≤ 12) : ∃ g, f_J16_multiplyToLen xn x (nI xn) yn y (nI yn) = some (xn + yn, g) ∧ bv g (xn + yn) = bv x xn * bv y yn := by
  have hchk : ∀ {n : Nat} {c : Nat → Int32}, n ≤ 12 → f_J16_multiplyToLenCheck n c (nI n) = some () := by
    intro n c h
    unfold f_J16_multiplyToLenCheck f_J17_requireNonNull
    simp only [Option.bind_some]
    by_cases c0 : 0 < nI n
    · rw [if_pos c0, if_pos ((nI_leI (by omega) (by omega)).mpr (Nat.le_refl _))]
    · rw [if_neg c0]
  unfold f_J16_multiplyToLen
  rw [hchk (by omega), hchk (by omega)]
  simp only [Option.bind_some]
  have key : ∃ r, f_J16_implMultiplyToLen xn x (nI xn) yn y (nI yn) = some r ∧ r.1 = xn + yn ∧ bv r.2 (xn + yn) = bv x xn * bv y yn := by
    unfold f_J16_implMultiplyToLen
    simp only [lt_eq, lti_eq, ltl_eq]
    rw [nI_add, gl_in (i := xn + yn) rfl hm (by decide), nI_s1 hx, nI_s1 hy, nI_a1, show yn - 1 + 1 = yn by omega, nI_add]
    obtain ⟨M, hM⟩ : ∃ M, M = xn + yn := ⟨_, rfl⟩
    rw [← hM]
    refine lp_bind (fun k p => ∃ t, t + k = yn ∧ uL p.2.1 < 4294967296 ∧ p.2.2.1 = dn yn t ∧ p.2.2.2 = nI (M - 1 - t) ∧ tv p.1 M t + uL p.2.1 * 4294967296 ^ t = tv y yn t * wd (x (xn - 1)))
      (fun o => uL o.2 < 4294967296 ∧ tv o.1 M yn + uL o.2 * 4294967296 ^ yn = bv y yn * wd (x (xn - 1))) yn (by omega) ⟨0, by omega, (by show 0 < 4294967296; decide), dn_0 hy, (by show nI (yn + (xn - 1)) = nI (M - 1 - 0); congr 1; omega), (by show tv _ M 0 + uL 0 * _ = _; rw [uL_0, tv_zero, tv_zero]; simp)⟩ ?_ ?_
    · intro k p hI
      obtain ⟨z, ca, vj, vk⟩ := p
      obtain ⟨t, e1, e2, e3, e4, e5⟩ := hI
      dsimp only at e2 e3 e4 e5 ⊢
      by_cases hd : k = 0
      · have ht : t = yn := by omega
        subst ht
        rw [if_pos (by rw [e3, dn_neg (by omega)]; exact Nat.le_refl _)]
        exact ⟨_, rfl, e2, by rw [tv_all] at e5; exact e5⟩
      · have ht : t < yn := by omega
        rw [if_neg (by rw [e3, dn_neg (by omega)]; omega), gd_in (e3.trans (dn_in ht)) (by omega) (by omega), gd_in (i := xn - 1) rfl (by omega) (by omega), gd_in e4 (by omega) (by omega)]
        have hb := mac_bound (wd_lt (y (yn - 1 - t))) (wd_lt (x (xn - 1))) (show 0 < 4294967296 by decide) e2
        have hu : uL (((y (yn - 1 - t)).toInt64 &&& 4294967295) * ((x (xn - 1)).toInt64 &&& 4294967295) + ca) = wd (y (yn - 1 - t)) * wd (x (xn - 1)) + uL ca := by
          rw [uL_add, uL_mul, uL_and, uL_and]; omega
        have hmac := mac hu
        refine ⟨_, rfl, k - 1, by omega, t + 1, by omega, ?_, ?_, ?_, ?_⟩
        · show uL ((_ : UInt64) >>> _).toInt64 < _
          rw [uL_shr32, hu]; omega
        · show vj + (-1) = _
          rw [e3, dn_step ht]
        · show vk + (-1) = _
          rw [e4, nI_m1 (by omega)]; congr 1
        · show tv (va_up z (M - 1 - t) _) M (t + 1) + uL (_ : Int64) * 4294967296 ^ (t + 1) = _
          rw [show M - 1 - t = M - (t + 1) by omega, tv_new (by omega), tv_succ y ht, show yn - (t + 1) = yn - 1 - t by omega]
          have := mac_eq (A := tv z M t) (B := 0) (C := tv y yn t) (D := 4294967296 ^ t) (P := 4294967296 ^ t) (E := 1) _ _ 0 (wd (y (yn - 1 - t))) (wd (x (xn - 1))) (uL ca) (by rw [Nat.add_zero]; exact hmac) (by rw [e5]; omega) (by omega)
          rw [Nat.pow_succ]
          simp only [Nat.zero_mul, Nat.zero_add, Nat.mul_one, Nat.add_zero] at this
          exact this
    · intro o ho
      obtain ⟨z, ca⟩ := o
      obtain ⟨o1, o2⟩ := ho
      dsimp only at o1 o2 ⊢
      rw [gd_in (i := xn - 1) rfl (by omega) (by omega)]
      have h1 : tv (va_up z (xn - 1) ca.toInt32) M (yn + 1) = bv y yn * wd (x (xn - 1)) := by
        rw [show xn - 1 = M - (yn + 1) by omega, tv_new (by omega), wd_l2i, Nat.mod_eq_of_lt o1, show M - (yn + 1) = xn - 1 by omega, ← o2]; omega
      rw [dn_1 hx]
      refine lp_bind (fun k p => ∃ u, u + k = xn ∧ 0 < u ∧ p.2 = dn xn u ∧ tv p.1 M (yn + u) = bv y yn * tv x xn u) (fun g => bv g M = bv x xn * bv y yn) (xn - 1) (by omega)
        ⟨1, by omega, by decide, rfl, by show tv _ M (yn + 1) = _; rw [h1, tv_succ x hx, tv_zero]; simp⟩ ?_ (fun g hg => ⟨_, rfl, rfl, hg⟩)
      intro k p hI
      obtain ⟨f, vi⟩ := p
      obtain ⟨u, e1, e2, e3, e4⟩ := hI
      dsimp only at e3 e4 ⊢
      by_cases hd : k = 0
      · have hu : u = xn := by omega
        subst hu
        rw [if_pos (by rw [e3, dn_neg (by omega)]; exact Nat.le_refl _)]
        refine ⟨_, rfl, ?_⟩
        show bv f M = _
        rw [tv_all, show yn + u = M by omega, tv_all] at e4
        rw [e4, Nat.mul_comm]
      · have hu : u < xn := by omega
        rw [if_neg (by rw [e3, dn_neg (by omega)]; omega)]
        rw [e3, dn_in hu, nI_add]
        have hK : ∀ z : Nat → Int32, ∀ ca : Int64, uL ca < 4294967296 → tv z M (u + yn) + uL ca * 4294967296 ^ (u + yn) = tv f M (u + yn) + bv y yn * wd (x (xn - 1 - u)) * 4294967296 ^ u →
            ∃ w, (gd M (nI (xn - 1 - u)) fun i153 => some (Sum.inl (va_up z i153 ca.toInt32, nI (xn - 1 - u) + (-1))) : Option (Sum ((Nat → Int32) × Int32) (Nat → Int32))) = some w ∧
              lpG (fun k p => ∃ u, u + k = xn ∧ 0 < u ∧ p.2 = dn xn u ∧ tv p.1 M (yn + u) = bv y yn * tv x xn u) (fun g => bv g M = bv x xn * bv y yn) k w := by
          intro z ca c1 c2
          rw [gd_in rfl (by omega) (by omega)]
          refine ⟨_, rfl, k - 1, by omega, u + 1, by omega, by omega, ?_, ?_⟩
          · show nI (xn - 1 - u) + (-1) = _
            rw [← dn_in hu, dn_step hu]
          · show tv (va_up z (xn - 1 - u) _) M (yn + (u + 1)) = _
            rw [show xn - 1 - u = M - (u + yn + 1) by omega, show yn + (u + 1) = u + yn + 1 by omega, tv_new (by omega), wd_l2i, Nat.mod_eq_of_lt c1, tv_succ x hu, show xn - (u + 1) = xn - 1 - u by omega]
            rw [show u + yn = yn + u by omega, e4] at c2
            rw [show u + yn = yn + u by omega, Nat.mul_add, ← Nat.mul_assoc]
            omega
        refine lp_bind (fun k p => ∃ t, t + k = yn ∧ uL p.2.1 < 4294967296 ∧ p.2.2.1 = dn yn t ∧ p.2.2.2 = nI (M - 1 - (u + t)) ∧ tv p.1 M (u + t) + uL p.2.1 * 4294967296 ^ (u + t) = tv f M (u + t) + tv y yn t * wd (x (xn - 1 - u)) * 4294967296 ^ u ∧ (∀ i, i < M - (u + t) → p.1 i = f i))
          (fun o => uL o.2 < 4294967296 ∧ tv o.1 M (u + yn) + uL o.2 * 4294967296 ^ (u + yn) = tv f M (u + yn) + bv y yn * wd (x (xn - 1 - u)) * 4294967296 ^ u) yn (by omega)
          ⟨0, by omega, (by show 0 < 4294967296; decide), dn_0 hy, (by show nI (yn + (xn - 1 - u)) = nI (M - 1 - (u + 0)); congr 1; omega), (by show tv f M (u + 0) + uL 0 * _ = _; rw [uL_0, tv_zero]; simp), fun _ _ => rfl⟩ ?_ (fun o ho => hK o.1 o.2 ho.1 ho.2)
        intro k' p hI
        obtain ⟨z, ca, vj, vk⟩ := p
        obtain ⟨t, e1', e2', e3', e4', e5', e6'⟩ := hI
        dsimp only at e2' e3' e4' e5' e6' ⊢
        by_cases hd' : k' = 0
        · have ht : t = yn := by omega
          subst ht
          rw [if_pos (by rw [e3', dn_neg (by omega)]; exact Nat.le_refl _)]
          exact ⟨_, rfl, e2', by rw [tv_all] at e5'; exact e5'⟩
        · have ht : t < yn := by omega
          rw [if_neg (by rw [e3', dn_neg (by omega)]; omega), gd_in (e3'.trans (dn_in ht)) (by omega) (by omega), gd_in (i := xn - 1 - u) rfl (by omega) (by omega), gd_in e4' (by omega) (by omega), gd_in e4' (by omega) (by omega)]
          have ez : z (M - 1 - (u + t)) = f (M - 1 - (u + t)) := e6' _ (by omega)
          rw [ez]
          have hb := mac_bound (wd_lt (y (yn - 1 - t))) (wd_lt (x (xn - 1 - u))) (wd_lt (f (M - 1 - (u + t)))) e2'
          have hu' : uL (((y (yn - 1 - t)).toInt64 &&& 4294967295) * ((x (xn - 1 - u)).toInt64 &&& 4294967295) + ((f (M - 1 - (u + t))).toInt64 &&& 4294967295) + ca) = wd (y (yn - 1 - t)) * wd (x (xn - 1 - u)) + wd (f (M - 1 - (u + t))) + uL ca := by
            rw [uL_add, uL_add, uL_mul, uL_and, uL_and, uL_and]; omega
          have hmac := mac hu'
          refine ⟨_, rfl, k' - 1, by omega, t + 1, by omega, ?_, ?_, ?_, ?_, ?_⟩
          · show uL ((_ : UInt64) >>> _).toInt64 < _
            rw [uL_shr32, hu']; omega
          · show vj + (-1) = _
            rw [e3', dn_step ht]
          · show vk + (-1) = _
            rw [e4', nI_m1 (by omega)]; congr 1
          · show tv (va_up z (M - 1 - (u + t)) _) M (u + (t + 1)) + uL (_ : Int64) * 4294967296 ^ (u + (t + 1)) = _
            rw [show u + (t + 1) = u + t + 1 by omega, show M - 1 - (u + t) = M - (u + t + 1) by omega, tv_new (by omega), tv_succ y ht, tv_succ f (by omega), show yn - (t + 1) = yn - 1 - t by omega, show M - (u + t + 1) = M - 1 - (u + t) by omega, Nat.pow_succ]
            exact mac_eq _ _ _ _ _ _ hmac e5' (bn_pow u t)
          · intro i hi
            show va_up z (M - 1 - (u + t)) _ i = _
            rw [up_ne _ _ (by omega)]
            exact e6' i (by omega)
  obtain ⟨r, e, r1, r2⟩ := key
  rw [e]
  exact ⟨r.2, by rw [Option.bind_some, r1], r2⟩
theorem min_ok {a b : Nat} (ha : a < 2147483648) (hb : b < 2147483648) : f_J12_min (nI a) (nI b) = some (nI (min a b)) := by
  unfold f_J12_min
  rw [ite_ltI hb ha]
  by_cases c : b < a
  · rw [if_pos c, Nat.min_eq_right (by omega)]
  · rw [if_neg c, Nat.min_eq_left (by omega)]
theorem strip_ok {n : Nat} {c : Nat → Int32} (hn : n ≤ 12) : ∃ m g, f_J16_trustedStripLeadingZeroInts n c = some (m, g) ∧ m ≤ n ∧ bv g m = bv c n ∧ (0 < m → g 0 ≠ 0) := by
  unfold f_J16_trustedStripLeadingZeroInts
  simp only [lt_eq, lti_eq]
  have hK : ∀ o, (∃ j, j ≤ n ∧ o = nI j ∧ (∀ i, i < j → c i = 0) ∧ (j < n → c j ≠ 0)) → ∃ r, (if o = 0 then some (n, c) else (f_J19_copyOfRange_2 n c o (nI n)).bind fun o17 => some (o17.1, o17.2)) = some r ∧ r.1 ≤ n ∧ bv r.2 r.1 = bv c n ∧ (0 < r.1 → r.2 0 ≠ 0) := by
    rintro o ⟨j, h1, rfl, h2, h3⟩
    by_cases c0 : j = 0
    · subst c0
      rw [if_pos (show nI 0 = 0 from rfl)]
      exact ⟨_, rfl, Nat.le_refl _, rfl, fun h => h3 h⟩
    · have hne : ¬ nI j = 0 := by rw [show (0 : Int32) = nI 0 from rfl, nI_eq (by omega) (by decide)]; exact c0
      rw [if_neg hne]
      have e : f_J19_copyOfRange_2 n c (nI j) (nI n) = some (n - j, va_cpy c (fun _ => 0) j 0 (n - j)) := by
        unfold f_J19_copyOfRange_2 f_J19_copyOfRangeInt f_J19_checkLength
        rw [if_neg hne, if_pos ((nI_leI (by omega) (by omega)).mpr h1)]
        simp only [lt_eq, lti_eq, Option.bind_some]
        rw [nI_sub h1, gl_in (i := n - j) rfl (by omega) (by omega), min_ok (by omega) (by omega), Nat.min_self, Option.bind_some, gd_in (i := j) rfl (by omega) (by omega), gd_0 (by omega) (by omega), gd_in (i := n - j) rfl (by omega) (by omega)]
        rw [ask_in (by rw [Bool.and_eq_true, Nat.ble_eq, Nat.ble_eq]; omega), Option.bind_some]
      rw [e]
      refine ⟨_, rfl, by show n - j ≤ n; omega, ?_, ?_⟩
      · show bv (va_cpy c _ j 0 (n - j)) (n - j) = _
        have := bv_split c j (n - j)
        rw [show j + (n - j) = n by omega, bv_zero h2, Nat.zero_mul, Nat.zero_add] at this
        rw [this]
        exact bv_congr fun i hi => by unfold va_cpy; rw [if_pos (by omega), Nat.sub_zero]
      · intro h
        have h' : 0 < n - j := h
        show va_cpy c (fun _ => 0) j 0 (n - j) 0 ≠ 0
        unfold va_cpy
        rw [if_pos (by omega)]
        exact h3 (by omega)
  obtain ⟨r, e, r1, r2, r3⟩ := lp_bind (fun k v => ∃ j, j + k = n ∧ v = nI j ∧ ∀ i, i < j → c i = 0) (fun o => ∃ j, j ≤ n ∧ o = nI j ∧ (∀ i, i < j → c i = 0) ∧ (j < n → c j ≠ 0)) n (by omega : n < 41) (x0 := (0 : Int32))
    (F := fun x => (show Option (Sum Int32 Int32) from (if nI n ≤ x then some (.inr x) else gd n x fun i12 => if c i12 = 0 then some (.inl (x + 1)) else some (.inr x))))
    ⟨0, by omega, rfl, fun i h => absurd h (by omega)⟩ (fun k v hI => by
      obtain ⟨j, h1, rfl, h2⟩ := hI
      dsimp only
      rw [ite_leI (by omega) (by omega)]
      by_cases c0 : n ≤ j
      · rw [if_pos c0]
        exact ⟨_, rfl, j, by omega, rfl, h2, fun h => absurd h (by omega)⟩
      · rw [if_neg c0, gd_in (i := j) rfl (by omega) (by omega)]
        by_cases c1 : c j = 0
        · rw [if_pos c1]
          refine ⟨_, rfl, k - 1, by omega, j + 1, by omega, nI_a1 j, fun i hi => ?_⟩
          by_cases ci : i = j
          · rw [ci]; exact c1
          · exact h2 i (by omega)
        · rw [if_neg c1]
          exact ⟨_, rfl, j, by omega, rfl, h2, fun _ => c1⟩) hK
  exact ⟨r.1, r.2, e, r1, r2, r3⟩
theorem sgn_mul {v w : Int} (hv : v ≠ 0) (hw : w ≠ 0) : (if v * w = 0 then (0 : Int32) else if 0 < v * w then 1 else -1) = if ((if 0 < v then (1 : Int32) else -1) = if 0 < w then 1 else -1) then 1 else -1 := by
  have hne : v * w ≠ 0 := Int.mul_ne_zero hv hw
  rw [if_neg hne]
  by_cases c1 : 0 < v
  · by_cases c2 : 0 < w
    · rw [if_pos c1, if_pos c2, if_pos rfl, if_pos (Int.mul_pos c1 c2)]
    · have := Int.mul_neg_of_pos_of_neg c1 (show w < 0 by omega)
      rw [if_pos c1, if_neg c2, if_neg (show ¬ 0 < v * w by omega), if_neg (by decide)]
  · by_cases c2 : 0 < w
    · have := Int.mul_neg_of_neg_of_pos (show v < 0 by omega) c2
      rw [if_neg c1, if_pos c2, if_neg (show ¬ 0 < v * w by omega), if_neg (by decide)]
    · have := Int.mul_pos_of_neg_of_neg (show v < 0 by omega) (show w < 0 by omega)
      rw [if_neg c1, if_neg c2, if_pos rfl, if_pos this]
/-- the product; of factors that have two words or more -/
theorem multiply_ok {N M : Nat} {v w : Int} {s s' : Int32} {n n' : Nat} {c c' : Nat → Int32} (h : Bg N v s n c) (h' : Bg M w s' n' c') (hNM : N + M ≤ 12) (hv : v = 0 ∨ 4294967296 ≤ v.natAbs) (hw : w = 0 ∨ 4294967296 ≤ w.natAbs) :
    ∃ s2 m g, f_J16_multiply s n c s' n' c' = some (s2, m, g) ∧ Bg (N + M) (v * w) s2 m g := by
  unfold f_J16_multiply f_J16_multiply_2
  by_cases hw0 : w = 0
  · subst hw0
    rw [if_pos h'.zero.1, Int.mul_zero]
    exact ⟨_, _, _, rfl, Bg.of0 _ _⟩
  · obtain ⟨a1, a2, a3, a4⟩ := h'.ne hw0
    rw [if_neg a4]
    by_cases hv0 : v = 0
    · subst hv0
      rw [if_pos h.zero.1, Int.zero_mul]
      exact ⟨_, _, _, rfl, Bg.of0 _ _⟩
    · obtain ⟨b1, b2, b3, b4⟩ := h.ne hv0
      rw [if_neg b4]
      simp only [lt_eq]
      obtain ⟨p1, p2, p3, p4⟩ := h
      obtain ⟨q1, q2, q3, q4⟩ := h'
      have hn : 1 < n := len_ge (c := c) (k := 1) (by rw [p2]; simpa using (hv.resolve_left hv0))
      have hn' : 1 < n' := len_ge (c := c') (k := 1) (by rw [q2]; simpa using (hw.resolve_left hw0))
      have i1 : nI n ≤ 20 := by rw [show (20 : Int32) = nI 20 from rfl, nI_leI (by omega) (by decide)]; omega
      have i2 : nI n < 80 := by rw [show (80 : Int32) = nI 80 from rfl, nI_ltI (by omega) (by decide)]; omega
      have i3 : ¬ nI n = 1 := by rw [show (1 : Int32) = nI 1 from rfl, nI_eq (by omega) (by decide)]; omega
      have i4 : ¬ nI n' = 1 := by rw [show (1 : Int32) = nI 1 from rfl, nI_eq (by omega) (by decide)]; omega
      rw [if_pos i1, if_pos i2]
      have key : ∀ z : Int32, z = (if v * w = 0 then (0 : Int32) else if 0 < v * w then 1 else -1) → ∃ s2 m g, ((if nI n' = 1 then none else if nI n = 1 then none else (f_J16_multiplyToLen n c (nI n) n' c' (nI n')).bind fun o10 => (f_J16_trustedStripLeadingZeroInts o10.1 o10.2).bind fun o12 => (f_J16_init_2 o12.1 o12.2 z).bind fun o15 => some (o15, o12.1, o12.2)) : Option (Int32 × Nat × (Nat → Int32))) = some (s2, m, g) ∧ Bg (N + M) (v * w) s2 m g := by
        intro z hz
        rw [if_neg i4, if_neg i3]
        obtain ⟨g, e, hg⟩ := mul_ok (x := c) (y := c') b1 a1 (by omega)
        rw [e, Option.bind_some]
        obtain ⟨m, g', e', m1, m2, m3⟩ := strip_ok (c := g) (show n + n' ≤ 12 by omega)
        rw [e', Option.bind_some]
        have hval : bv g' m = (v * w).natAbs := by rw [m2, hg, p2, q2, Int.natAbs_mul]
        have hm : 0 < m := by
          rcases Nat.eq_zero_or_pos m with e0 | e0
          · subst e0
            have h0 : (v * w).natAbs = 0 := hval.symm
            exact absurd (Int.natAbs_eq_zero.mp h0) (Int.mul_ne_zero hv0 hw0)
          · exact e0
        rw [init2_ok hm (by show m ≤ 12; omega), Option.bind_some]
        exact ⟨_, _, _, rfl, by show m ≤ _; omega, hval, m3, hz⟩
      have hs := sgn_mul hv0 hw0
      rw [← b3, ← a3] at hs
      have h2 : (if s = s' then (1 : Int32) else -1) = (if v * w = 0 then (0 : Int32) else if 0 < v * w then 1 else -1) := hs.symm
      obtain ⟨s2, m, g, e, hb⟩ := key _ h2
      refine ⟨s2, m, g, ?_, hb⟩
      by_cases cs : s = s'
      · rw [if_pos cs] at e ⊢
        simp only [e, Option.bind_some]
      · rw [if_neg cs] at e ⊢
        simp only [e, Option.bind_some]
/-- the first words that differ tell the order -/
theorem bv_cmp {c d : Nat → Int32} : ∀ {n j : Nat}, j < n → (∀ i, i < j → c i = d i) → wd (c j) < wd (d j) → bv c n < bv d n
  | 0, j, h, _, _ => absurd h (by omega)
  | n + 1, j, h, h1, h2 => by
    show bv c n * 4294967296 + wd (c n) < bv d n * 4294967296 + wd (d n)
    by_cases e : j = n
    · subst e
      rw [bv_congr h1]; omega
    · have := bv_cmp (show j < n by omega) h1 h2
      have := wd_lt (c n)
      omega
theorem uL_toInt {x : Int64} {n : Nat} (h : uL x = n) (hn : n < 9223372036854775808) : x.toInt = n := by
  unfold uL at h
  have h2 : x.toUInt64.toNat = x.toBitVec.toNat := rfl
  rw [h2] at h
  show x.toBitVec.toInt = _
  rw [BitVec.toInt_eq_toNat_cond, if_pos (by omega), h]
theorem cmpMag_ok {n n' : Nat} {c c' : Nat → Int32} {s s' : Int32} (hn : n ≤ 12) (hn' : n' ≤ 12) (h : 0 < n → c 0 ≠ 0) (h' : 0 < n' → c' 0 ≠ 0) :
    f_J16_compareMagnitude s n c s' n' c' = some (if bv c n < bv c' n' then -1 else if bv c n = bv c' n' then 0 else 1) := by
  unfold f_J16_compareMagnitude
  rw [ite_leI (by omega) (by omega), ite_leI (by omega) (by omega)]
  have hlong : ∀ {a b : Nat} {d e : Nat → Int32}, a < b → (0 < b → e 0 ≠ 0) → bv d a < bv e b := by
    intro a b d e hab he
    have h1 := bv_lt d a
    obtain ⟨b', rfl⟩ : ∃ b', b = b' + 1 := ⟨b - 1, by omega⟩
    have h2 := bv_low (n := b') (he (by omega))
    have h3 : 4294967296 ^ a ≤ 4294967296 ^ b' := Nat.pow_le_pow_right (by decide) (by omega)
    omega
  by_cases c1 : n' ≤ n
  · rw [if_pos c1]
    by_cases c2 : n ≤ n'
    · rw [if_pos c2]
      have : n = n' := by omega
      subst this
      simp only [lt_eq, lti_eq, ltl_eq]
      obtain ⟨r, e, hr⟩ := lp_bind (β := Int32) (Q := fun r => r = (if bv c n < bv c' n then -1 else if bv c n = bv c' n then 0 else 1)) (n := 41) (x0 := (0 : Int32))
        (F := fun x => (show Option (Sum Int32 (Sum Int32 (Int32 × Int32))) from (if nI n ≤ x then some (.inr (.inl 0)) else gd n x fun i17 => gd n x fun i19 => if c i17 = c' i19 then some (.inl (x + 1)) else some (.inr (.inr (c i17, c' i19))))))
        (K := fun w14 => match w14 with
          | .inl rt => some rt
          | .inr u24 => if 0 ≤ lg_cmp (u24.1.toInt64 &&& 4294967295) (u24.2.toInt64 &&& 4294967295) then some 1 else some (-1))
        (fun k v => ∃ j, j + k = n ∧ v = nI j ∧ ∀ i, i < j → c i = c' i) (fun o => (o = .inl 0 ∧ bv c n = bv c' n) ∨ ∃ a b, o = .inr (a, b) ∧ ((wd a < wd b ∧ bv c n < bv c' n) ∨ (wd b < wd a ∧ bv c' n < bv c n)))
        n (by omega) ⟨0, by omega, rfl, fun i hi => absurd hi (by omega)⟩ (by
          intro k v hI
          obtain ⟨j, h1, rfl, h2⟩ := hI
          dsimp only
          rw [ite_leI (by omega) (by omega)]
          by_cases d : n ≤ j
          · rw [if_pos d]
            exact ⟨_, rfl, Or.inl ⟨rfl, bv_congr fun i hi => h2 i (by omega)⟩⟩
          · rw [if_neg d, gd_in (i := j) rfl (by omega) (by omega), gd_in (i := j) rfl (by omega) (by omega)]
            by_cases d1 : c j = c' j
            · rw [if_pos d1]
              refine ⟨_, rfl, k - 1, by omega, j + 1, by omega, nI_a1 j, fun i hi => ?_⟩
              by_cases ci : i = j
              · rw [ci]; exact d1
              · exact h2 i (by omega)
            · rw [if_neg d1]
              refine ⟨_, rfl, Or.inr ⟨_, _, rfl, ?_⟩⟩
              rcases Nat.lt_or_gt_of_ne (fun z => d1 (wd_inj z) : wd (c j) ≠ wd (c' j)) with z | z
              · exact Or.inl ⟨z, bv_cmp (by omega) h2 z⟩
              · exact Or.inr ⟨z, bv_cmp (by omega) (fun i hi => (h2 i hi).symm) z⟩) (by
          rintro o (⟨rfl, ho⟩ | ⟨a, b, rfl, ho⟩)
          · exact ⟨_, rfl, by rw [if_neg (by omega), if_pos ho]⟩
          · dsimp only
            have ea := uL_toInt (uL_and a) (by have := wd_lt a; omega)
            have eb := uL_toInt (uL_and b) (by have := wd_lt b; omega)
            rw [lcmp_lit, ea, eb]
            rcases ho with ⟨z, ho⟩ | ⟨z, ho⟩
            · rw [if_neg (show ¬ (wd b : Int) < wd a by omega), if_neg (show ¬ (wd a : Int) = wd b by omega), if_neg (by decide), if_pos ho]
              exact ⟨_, rfl, rfl⟩
            · rw [if_pos (show (wd b : Int) < wd a by omega), if_pos (by decide), if_neg (show ¬ bv c n < bv c' n by omega), if_neg (show ¬ bv c n = bv c' n by omega)]
              exact ⟨_, rfl, rfl⟩)
      subst hr
      exact e
    · have := hlong (d := c') (e := c) (show n' < n by omega) h
      rw [if_neg c2, if_neg (by omega), if_neg (by omega)]
  · have := hlong (d := c) (e := c') (show n < n' by omega) h'
    rw [if_neg c1, if_pos this]
theorem compareTo_ok {N M : Nat} {v w : Int} {s s' : Int32} {n n' : Nat} {c c' : Nat → Int32} (h : Bg N v s n c) (h' : Bg M w s' n' c') (hN : N ≤ 12) (hM : M ≤ 12) :
    f_J16_compareTo s n c s' n' c' = some (if v < w then -1 else if v = w then 0 else 1) := by
  obtain ⟨p1, p2, p3, p4⟩ := id h
  obtain ⟨q1, q2, q3, q4⟩ := id h'
  have k1 := cmpMag_ok (s := s) (s' := s') (show n ≤ 12 by omega) (show n' ≤ 12 by omega) p3 q3
  have k2 := cmpMag_ok (s := s') (s' := s) (show n' ≤ 12 by omega) (show n ≤ 12 by omega) q3 p3
  unfold f_J16_compareTo
  rw [k1, k2, p2, q2, p4, q4]
  simp only [Option.bind_some]
  rcases Int.lt_trichotomy v 0 with a | a | a <;> rcases Int.lt_trichotomy w 0 with b | b | b
  · have e1 : (w.natAbs < v.natAbs) = (v < w) := by simp only [eq_iff_iff]; omega
    have e2 : (w.natAbs = v.natAbs) = (v = w) := by simp only [eq_iff_iff]; omega
    simp only [show ¬ v = 0 by omega, show ¬ 0 < v by omega, show ¬ w = 0 by omega, show ¬ 0 < w by omega, if_false, if_true, e1, e2]
  · simp [show ¬ v = 0 by omega, show ¬ 0 < v by omega, b, show v < 0 by omega]
  · simp [show ¬ v = 0 by omega, show ¬ 0 < v by omega, show ¬ w = 0 by omega, b, show v < w by omega]
  · simp [show ¬ w = 0 by omega, show ¬ 0 < w by omega, a, show ¬ 0 < w by omega, show ¬ 0 = w by omega]
  · simp [a, b]
  · simp [a, b, show ¬ w = 0 by omega]
  · simp [show ¬ v = 0 by omega, a, show ¬ w = 0 by omega, show ¬ 0 < w by omega, show ¬ v < w by omega, show ¬ v = w by omega]
  · simp [show ¬ v = 0 by omega, a, b, show ¬ v < 0 by omega]
  · have e1 : (v.natAbs < w.natAbs) = (v < w) := by simp only [eq_iff_iff]; omega
    have e2 : (v.natAbs = w.natAbs) = (v = w) := by simp only [eq_iff_iff]; omega
    simp only [show ¬ v = 0 by omega, a, show ¬ w = 0 by omega, b, if_false, if_true, e1, e2]
    simp
theorem nI_tk {n t : Nat} (h : t < n) (hn : n < 2147483648) : nI (n - t) + (-1) = nI (n - (t + 1)) := by rw [nI_m1 (by omega)]; congr 1
theorem ite_le0 {α : Type} {a : Nat} {x y : α} (ha : a < 2147483648) : (if nI a ≤ 0 then x else y) = if a = 0 then x else y := by
  have := ite_leI (x := x) (y := y) ha (show 0 < 2147483648 by decide)
  rw [show nI 0 = 0 from rfl] at this
  rw [this]
  by_cases c : a = 0
  · rw [if_pos c, if_pos (by omega)]
  · rw [if_neg c, if_neg (by omega)]
/-- the words that are left are copied -/
theorem copy_ok {β : Type} {n t : Nat} {x f : Nat → Int32} {E : Nat} {K : (Nat → Int32) → Option β} {Q : β → Prop} (hn : n ≤ 12) (ht : t ≤ n) (h : tv f n t = tv x n t + E) (hK : ∀ g, bv g n = bv x n + E → ∃ r, K g = some r ∧ Q r) :
    ∃ r, Option.bind (lp 41 (fun (p : Int32 × (Nat → Int32)) => (show Option (Sum (Int32 × (Nat → Int32)) (Nat → Int32)) from (if p.1 ≤ 0 then some (.inr p.2) else gd n (p.1 + (-1)) fun i38 => gd n (p.1 + (-1)) fun i40 => some (.inl (p.1 + (-1), va_up p.2 i40 (x i38)))))) (nI (n - t), f)) K = some r ∧ Q r := by
  refine lp_bind (fun k p => ∃ t, t + k = n ∧ p.1 = nI (n - t) ∧ tv p.2 n t = tv x n t + E) (fun g => bv g n = bv x n + E) (n - t) (by omega) ⟨t, by omega, rfl, h⟩ ?_ hK
  intro k p hI
  obtain ⟨v, g⟩ := p
  obtain ⟨t, e1, e2, e3⟩ := hI
  dsimp only at e2 e3 ⊢
  subst e2
  rw [ite_le0 (by omega)]
  by_cases c : n - t = 0
  · rw [if_pos c]
    refine ⟨_, rfl, ?_⟩
    have : t = n := by omega
    subst this
    rw [tv_all, tv_all] at e3
    exact e3
  · rw [if_neg c, nI_tk (by omega) (by omega), gd_in rfl (by omega) (by omega), gd_in rfl (by omega) (by omega)]
    refine ⟨_, rfl, k - 1, by omega, t + 1, by omega, rfl, ?_⟩
    show tv (va_up g (n - (t + 1)) (x (n - (t + 1)))) n (t + 1) = _
    rw [tv_new (by omega), tv_succ x (by omega), e3]; omega
theorem wd_a1 (x : Int32) : wd (x + 1) = (wd x + 1) % 4294967296 := by unfold wd; rw [Int32.toUInt32_add, UInt32.toNat_add]; rfl
/-- the part of add behind the first words -/
noncomputable def addT (n2 : Nat) (f3 : Nat → Int32) (n9 : Nat) (v10 : Int32) (f11 : Nat → Int32) (v12 : Int64) : Option (Nat × (Nat → Int32)) :=
  ltl (((v12 : Int64).toUInt64 >>> ((32 : Int32).toInt64.toUInt64 &&& Int64.toUInt64 63)).toInt64) fun v14 =>
  lti (lg_cmp v14 0) fun v15 =>
  (if v15 = 0 then
    lt (fun (_u : Unit) =>
    (show Option (Sum (Unit) (Unit)) from (
    (if v10 ≤ 0 then
      some (.inr ())
    else
      some (.inr ())
    )
    ))
    ) fun F19 =>
    Option.bind (lp 41 (fun x => F19 x) ()) fun w20 =>
    lt (fun (v24 : Int32) (f25 : Nat → Int32) =>
    (show Option (Sum (Int32 × (Nat → Int32)) ((Nat → Int32))) from (
    (if v24 ≤ 0 then
      some (.inr f25)
    else
      lti (v24 + (-1)) fun v37 =>
      gd n2 v37 fun i38 =>
      lti (f3 i38) fun v39 =>
      gd n9 v37 fun i40 =>
      lt (va_up f25 i40 v39) fun f41 =>
      some (.inl (v37, f41))
    )
    ))
    ) fun F33 =>
    Option.bind (lp 41 (fun x => F33 x.1 x.2) (v10, f11)) fun w34 =>
    some (n9, w34)
  else
    lt (fun (v43 : Int32) (f44 : Nat → Int32) (v45 : Bool) =>
    (show Option (Sum (Int32 × (Nat → Int32) × Bool) (Int32 × (Nat → Int32) × Bool)) from (
    (if v43 ≤ 0 then
      some (.inr (v43, f44, v45))
    else
      (if v45 = true then
        lti (v43 + (-1)) fun v63 =>
        gd n2 v63 fun i64 =>
        lti (f3 i64) fun v65 =>
        lti (v65 + 1) fun v66 =>
        gd n9 v63 fun i67 =>
        lt (va_up f44 i67 v66) fun f68 =>
        lt (fun (v69 : Bool) =>
        some (.inl (v63, f68, v69))
        ) fun K70 =>
        (if v66 = 0 then
          K70 true
        else
          K70 false
        )
      else
        some (.inr (v43, f44, v45))
      )
    )
    ))
    ) fun F58 =>
    Option.bind (lp 41 (fun x => F58 x.1 x.2.1 x.2.2) (v10, f11, true)) fun w59 =>
    lt (fun (v72 : Int32) (f73 : Nat → Int32) =>
    (show Option (Sum (Int32 × (Nat → Int32)) ((Nat → Int32))) from (
    (if v72 ≤ 0 then
      some (.inr f73)
    else
      lti (v72 + (-1)) fun v85 =>
      gd n2 v85 fun i86 =>
      lti (f3 i86) fun v87 =>
      gd n9 v85 fun i88 =>
      lt (va_up f73 i88 v87) fun f89 =>
      some (.inl (v85, f89))
    )
    ))
    ) fun F81 =>
    Option.bind (lp 41 (fun x => F81 x.1 x.2) (w59.1, w59.2.1)) fun w82 =>
    (if w59.2.2 = true then
      lti ((nI n9) + 1) fun v91 =>
      gl 12 v91 fun n93 =>
      gd (n9 + 1) 0 fun i94 =>
      gd (n93 + 1) 1 fun i95 =>
      gd (n9 + 1) (nI n9) fun i96 =>
      ask (Nat.ble (i94 + i96) n9 && Nat.ble (i95 + i96) n93) <|
      lt (va_cpy w82 (fun _ => 0) i94 i95 i96) fun f98 =>
      gd n93 0 fun i99 =>
      lt (va_up f98 i99 1) fun f100 =>
      some (n93, f100)
    else
      some (n9, w82)
    )
  )
theorem wd_zero_iff {x : Int32} : (x = 0) = (wd x = 0) := by
  simp only [eq_iff_iff]
  exact ⟨fun e => by rw [e, wd_0], fun e => wd_inj (by rw [e, wd_0])⟩
theorem addT_ok {xn t : Nat} {x f : Nat → Int32} {v : Int64} {E : Nat} (hn : xn ≤ 11) (hn0 : 0 < xn) (ht : t ≤ xn) (hv : uL v / 4294967296 ≤ 1) (h : tv f xn t + uL v / 4294967296 * 4294967296 ^ t = tv x xn t + E) :
    ∃ r, addT xn x xn (nI (xn - t)) f v = some r ∧ ((r.1 = xn ∧ bv r.2 xn = bv x xn + E) ∨ (r.1 = xn + 1 ∧ bv r.2 (xn + 1) = bv x xn + E ∧ r.2 0 = 1)) := by
  unfold addT
  simp only [lt_eq, lti_eq, ltl_eq]
  have hs := uL_shr32 v
  have hi : ((v.toUInt64 >>> ((32 : Int32).toInt64.toUInt64 &&& Int64.toUInt64 63)).toInt64).toInt = ((uL v / 4294967296 : Nat) : Int) := uL_toInt hs (by omega)
  rw [lcmp0, hi]
  by_cases c0 : uL v / 4294967296 = 0
  · rw [c0, show (if (0 : Int) < ((0 : Nat) : Int) then (1 : Int32) else if ((0 : Nat) : Int) = 0 then 0 else -1) = 0 from rfl, if_pos rfl]
    rw [c0, Nat.zero_mul, Nat.add_zero] at h
    refine lp_bind (fun k _ => k = 0) (fun _ => True) 0 (by decide) rfl (fun k p hI => ?_) (fun o _ => ?_)
    · by_cases c1 : nI (xn - t) ≤ 0
      · rw [if_pos c1]; exact ⟨_, rfl, trivial⟩
      · rw [if_neg c1]; exact ⟨_, rfl, trivial⟩
    · exact copy_ok (by omega) ht h fun g hg => ⟨_, rfl, Or.inl ⟨rfl, hg⟩⟩
  · have c1 : uL v / 4294967296 = 1 := by omega
    rw [c1, show (if (0 : Int) < ((1 : Nat) : Int) then (1 : Int32) else if ((1 : Nat) : Int) = 0 then 0 else -1) = 1 from rfl, if_neg (by decide)]
    rw [c1, Nat.one_mul] at h
    refine lp_bind (fun k p => ∃ t, t + k = xn ∧ p.1 = nI (xn - t) ∧ tv p.2.1 xn t + (if p.2.2 = true then 1 else 0) * 4294967296 ^ t = tv x xn t + E) (fun o => ∃ t, t ≤ xn ∧ o.1 = nI (xn - t) ∧ tv o.2.1 xn t + (if o.2.2 = true then 1 else 0) * 4294967296 ^ t = tv x xn t + E ∧ (o.2.2 = true → t = xn))
      (xn - t) (by omega) ⟨t, by omega, rfl, by rw [if_pos rfl, Nat.one_mul]; exact h⟩ ?_ ?_
    · intro k p hI
      obtain ⟨w, g, b⟩ := p
      obtain ⟨t, e1, e2, e3⟩ := hI
      dsimp only at e2 e3 ⊢
      subst e2
      rw [ite_le0 (by omega)]
      by_cases d0 : xn - t = 0
      · rw [if_pos d0]
        exact ⟨_, rfl, t, by omega, rfl, e3, fun _ => by omega⟩
      · rw [if_neg d0]
        cases b with
        | false =>
          rw [if_neg (by decide)]
          exact ⟨_, rfl, t, by omega, rfl, e3, fun z => by cases z⟩
        | true =>
          rw [if_pos rfl, nI_tk (by omega) (by omega), gd_in rfl (by omega) (by omega), gd_in rfl (by omega) (by omega)]
          rw [if_pos rfl, Nat.one_mul] at e3
          have hw := wd_a1 (x (xn - (t + 1)))
          have hl := wd_lt (x (xn - (t + 1)))
          have hb : (if x (xn - (t + 1)) + 1 = 0 then (some (Sum.inl (nI (xn - (t + 1)), va_up g (xn - (t + 1)) (x (xn - (t + 1)) + 1), true)) : Option (Sum (Int32 × (Nat → Int32) × Bool) (Int32 × (Nat → Int32) × Bool))) else some (Sum.inl (nI (xn - (t + 1)), va_up g (xn - (t + 1)) (x (xn - (t + 1)) + 1), false))) =
            some (Sum.inl (nI (xn - (t + 1)), va_up g (xn - (t + 1)) (x (xn - (t + 1)) + 1), decide (wd (x (xn - (t + 1)) + 1) = 0))) := by
            by_cases z : x (xn - (t + 1)) + 1 = 0
            · rw [if_pos z, decide_eq_true (by rw [z, wd_0])]
            · rw [if_neg z, decide_eq_false (fun y => z (by rw [wd_zero_iff]; exact y))]
          rw [hb]
          refine ⟨_, rfl, k - 1, by omega, t + 1, by omega, rfl, ?_⟩
          show tv (va_up g (xn - (t + 1)) _) xn (t + 1) + (if decide (wd (x (xn - (t + 1)) + 1) = 0) = true then 1 else 0) * 4294967296 ^ (t + 1) = _
          rw [tv_new (by omega), tv_succ x (by omega), Nat.pow_succ]
          by_cases z : wd (x (xn - (t + 1)) + 1) = 0
          · rw [decide_eq_true z, if_pos rfl, z]
            have : wd (x (xn - (t + 1))) = 4294967295 := by omega
            rw [this]; omega
          · rw [decide_eq_false z, if_neg (by decide)]
            have : wd (x (xn - (t + 1)) + 1) = wd (x (xn - (t + 1))) + 1 := by omega
            rw [this, Nat.add_mul]; omega
    · intro o ho
      obtain ⟨w, g, b⟩ := o
      obtain ⟨t, e1, e2, e3, e4⟩ := ho
      dsimp only at e2 e3 e4 ⊢
      subst e2
      cases b with
      | false =>
        rw [if_neg (by decide), Nat.zero_mul, Nat.add_zero] at e3
        refine copy_ok (by omega) e1 e3 fun g hg => ?_
        rw [if_neg (by decide)]
        exact ⟨_, rfl, Or.inl ⟨rfl, hg⟩⟩
      | true =>
        have ht := e4 rfl
        subst ht
        rw [if_pos rfl, Nat.one_mul, tv_all] at e3
        refine lp_bind (fun k p => k = 0 ∧ p = (nI 0, g)) (fun o => o = g) 0 (by decide) ⟨rfl, by rw [Nat.sub_self]⟩ (fun k p hI => ?_) (fun o ho => ?_)
        · obtain ⟨-, rfl⟩ := hI
          dsimp only
          rw [ite_le0 (by decide), if_pos rfl]
          exact ⟨_, rfl, rfl⟩
        · subst ho
          rw [if_pos rfl, nI_a1, gl_in (i := t + 1) rfl (by omega) (by omega), gd_0 (by omega) (by omega), gd_1 (by omega) (by omega), gd_in (i := t) rfl (by omega) (by omega), ask_in (by rw [Bool.and_eq_true, Nat.ble_eq, Nat.ble_eq]; omega), gd_0 (by omega) (by omega)]
          refine ⟨_, rfl, Or.inr ⟨rfl, ?_, (show va_up (va_cpy o (fun _ => 0) 0 1 t) 0 1 0 = 1 from up_eq _ _ _)⟩⟩
          show bv (va_up (va_cpy o _ 0 1 t) 0 1) (t + 1) = _
          rw [bv_cons, up_eq]
          have : bv (fun i => va_up (va_cpy o (fun _ => 0) 0 1 t) 0 1 (i + 1)) t = bv o t := bv_congr fun i hi => by
            rw [up_ne _ _ (by omega)]
            unfold va_cpy
            rw [if_pos (by omega)]
            congr 1; omega
          rw [this, show wd 1 = 1 from rfl, Nat.one_mul]
          rw [tv_all] at e3
          omega

set_option maxHeartbeats 1000000 in
set_option maxRecDepth 10000 in
theorem add2_ok {n n' : Nat} {c c' : Nat → Int32} (hn : n ≤ 11) (hn' : n' ≤ 11) (h0 : 0 < n) (h0' : 0 < n') (h : c 0 ≠ 0) (h' : c' 0 ≠ 0) :
    ∃ m g, f_J16_add_2 n c n' c' = some (m, g) ∧ m ≤ max n n' + 1 ∧ bv g m = bv c n + bv c' n' ∧ g 0 ≠ 0 ∧ 0 < m := by
  have key : ∀ {xn yn : Nat} {x y : Nat → Int32}, yn ≤ xn → xn ≤ 11 → 0 < yn → x 0 ≠ 0 → ∃ r : Nat × (Nat → Int32), (gl 12 (nI xn) fun n9 =>
      (if nI yn = 1 then
        gd xn (nI xn + (-1)) fun i147 => gd yn 0 fun i151 => gd n9 (nI xn + (-1)) fun i157 =>
          addT xn x n9 (nI xn + (-1)) (va_up (fun _ => 0) i157 (((x i147).toInt64 &&& 4294967295) + ((y i151).toInt64 &&& 4294967295)).toInt32) (((x i147).toInt64 &&& 4294967295) + ((y i151).toInt64 &&& 4294967295))
      else
        Option.bind (lp 41 (fun (p : Int32 × Int32 × (Nat → Int32) × Int64) => (show Option (Sum (Int32 × Int32 × (Nat → Int32) × Int64) (Int32 × (Nat → Int32) × Int64)) from (if p.2.1 ≤ 0 then some (.inr (p.1, p.2.2.1, p.2.2.2)) else
          gd xn (p.1 + (-1)) fun i131 => gd yn (p.2.1 + (-1)) fun i136 => gd n9 (p.1 + (-1)) fun i144 =>
            some (.inl (p.1 + (-1), p.2.1 + (-1), va_up p.2.2.1 i144 ((((x i131).toInt64 &&& 4294967295) + ((y i136).toInt64 &&& 4294967295)) + ((p.2.2.2.toUInt64 >>> ((32 : Int32).toInt64.toUInt64 &&& Int64.toUInt64 63)).toInt64)).toInt32, (((x i131).toInt64 &&& 4294967295) + ((y i136).toInt64 &&& 4294967295)) + ((p.2.2.2.toUInt64 >>> ((32 : Int32).toInt64.toUInt64 &&& Int64.toUInt64 63)).toInt64)))))) (nI xn, nI yn, (fun _ => 0), 0)) fun w127 =>
          addT xn x n9 w127.1 w127.2.1 w127.2.2)) = some r ∧ r.1 ≤ xn + 1 ∧ bv r.2 r.1 = bv x xn + bv y yn ∧ r.2 0 ≠ 0 ∧ 0 < r.1 := by
    intro xn yn x y h1 h2 h3 h4
    rw [gl_in rfl (by omega) (by decide)]
    have fin : ∀ r : Nat × (Nat → Int32), ((r.1 = xn ∧ bv r.2 xn = bv x xn + bv y yn) ∨ (r.1 = xn + 1 ∧ bv r.2 (xn + 1) = bv x xn + bv y yn ∧ r.2 0 = 1)) → r.1 ≤ xn + 1 ∧ bv r.2 r.1 = bv x xn + bv y yn ∧ r.2 0 ≠ 0 ∧ 0 < r.1 := by
      rintro ⟨m, g⟩ (⟨e1, e2⟩ | ⟨e1, e2, e3⟩)
      · dsimp only at e1 e2 ⊢
        subst e1
        refine ⟨by omega, e2, top_ne (n := m - 1) ?_, by omega⟩
        rw [show m - 1 + 1 = m by omega, e2]
        have := bv_low (n := m - 1) h4
        rw [show m - 1 + 1 = m by omega] at this
        omega
      · dsimp only at e1 e2 e3 ⊢
        subst e1
        exact ⟨by omega, e2, by rw [e3]; decide, by omega⟩
    by_cases c1 : yn = 1
    · subst c1
      rw [if_pos (show nI 1 = 1 from rfl), nI_m1 (by omega), gd_in rfl (by omega) (by omega), gd_0 (by omega) (by omega), gd_in rfl (by omega) (by omega)]
      have hu : uL (((x (xn - 1)).toInt64 &&& 4294967295) + ((y 0).toInt64 &&& 4294967295)) = wd (x (xn - 1)) + wd (y 0) := by
        rw [uL_add, uL_and, uL_and]; have := wd_lt (x (xn - 1)); have := wd_lt (y 0); omega
      have hl1 := wd_lt (x (xn - 1))
      have hl2 := wd_lt (y 0)
      obtain ⟨r, e, hr⟩ := addT_ok (xn := xn) (t := 1) (x := x) (f := va_up (fun _ => 0) (xn - 1) (((x (xn - 1)).toInt64 &&& 4294967295) + ((y 0).toInt64 &&& 4294967295)).toInt32) (v := ((x (xn - 1)).toInt64 &&& 4294967295) + ((y 0).toInt64 &&& 4294967295)) (E := bv y 1) h2 (by omega) (by omega) (by rw [hu]; omega) (by
        rw [show xn - 1 = xn - (0 + 1) by omega, tv_new (by omega), tv_zero, tv_succ x (by omega), tv_zero, wd_l2i]
        rw [show xn - (0 + 1) = xn - 1 by omega, hu]
        show _ = _ + (0 * 4294967296 + wd (y 0))
        omega)
      exact ⟨r, e, fin _ hr⟩
    · rw [if_neg (by rw [show (1 : Int32) = nI 1 from rfl, nI_eq (by omega) (by decide)]; exact c1)]
      refine lp_bind
        (fun k p => ∃ t, t + k = yn ∧ p.1 = nI (xn - t) ∧ p.2.1 = nI (yn - t) ∧ uL p.2.2.2 / 4294967296 ≤ 1 ∧ tv p.2.2.1 xn t + uL p.2.2.2 / 4294967296 * 4294967296 ^ t = tv x xn t + tv y yn t)
        (fun o => o.1 = nI (xn - yn) ∧ uL o.2.2 / 4294967296 ≤ 1 ∧ tv o.2.1 xn yn + uL o.2.2 / 4294967296 * 4294967296 ^ yn = tv x xn yn + bv y yn)
        yn (by omega) ⟨0, by omega, rfl, rfl, (by show uL 0 / 4294967296 ≤ 1; rw [uL_0, Nat.zero_div]; exact Nat.zero_le _), (by show tv _ xn 0 + uL 0 / 4294967296 * _ = _; rw [uL_0, tv_zero, tv_zero, tv_zero, Nat.zero_div, Nat.zero_mul])⟩ (by
          intro k p hI
          obtain ⟨vx, vy, f, v⟩ := p
          obtain ⟨t, e1, e2, e3, e4, e5⟩ := hI
          dsimp only at e2 e3 e4 e5 ⊢
          subst e2; subst e3
          rw [ite_le0 (by omega)]
          by_cases d0 : yn - t = 0
          · rw [if_pos d0]
            have : t = yn := by omega
            subst this
            exact ⟨_, rfl, rfl, e4, by rw [tv_all] at e5; exact e5⟩
          · rw [if_neg d0, nI_tk (by omega) (by omega), nI_tk (by omega) (by omega), gd_in rfl (by omega) (by omega), gd_in rfl (by omega) (by omega), gd_in rfl (by omega) (by omega)]
            have hl1 := wd_lt (x (xn - (t + 1)))
            have hl2 := wd_lt (y (yn - (t + 1)))
            have hu : uL ((((x (xn - (t + 1))).toInt64 &&& 4294967295) + ((y (yn - (t + 1))).toInt64 &&& 4294967295)) + ((v.toUInt64 >>> ((32 : Int32).toInt64.toUInt64 &&& Int64.toUInt64 63)).toInt64)) = wd (x (xn - (t + 1))) + wd (y (yn - (t + 1))) + uL v / 4294967296 := by
              rw [uL_add, uL_add, uL_and, uL_and, uL_shr32]; omega
            refine ⟨_, rfl, k - 1, by omega, t + 1, by omega, rfl, rfl, ?_, ?_⟩
            · show uL ((((x (xn - (t + 1))).toInt64 &&& 4294967295) + ((y (yn - (t + 1))).toInt64 &&& 4294967295)) + ((v.toUInt64 >>> ((32 : Int32).toInt64.toUInt64 &&& Int64.toUInt64 63)).toInt64)) / 4294967296 ≤ 1
              rw [hu]; omega
            · show tv (va_up f (xn - (t + 1)) _) xn (t + 1) + uL ((((x (xn - (t + 1))).toInt64 &&& 4294967295) + ((y (yn - (t + 1))).toInt64 &&& 4294967295)) + ((v.toUInt64 >>> ((32 : Int32).toInt64.toUInt64 &&& Int64.toUInt64 63)).toInt64)) / 4294967296 * 4294967296 ^ (t + 1) = _
              rw [tv_new (by omega), tv_succ x (by omega), tv_succ y (by omega), wd_l2i, hu, Nat.pow_succ]
              obtain ⟨P, hP⟩ : ∃ P, P = 4294967296 ^ t := ⟨_, rfl⟩
              rw [← hP] at e5 ⊢
              obtain ⟨a, ha⟩ : ∃ a, a = wd (x (xn - (t + 1))) := ⟨_, rfl⟩
              obtain ⟨b, hb⟩ : ∃ b, b = wd (y (yn - (t + 1))) := ⟨_, rfl⟩
              obtain ⟨q, hq⟩ : ∃ q, q = uL v / 4294967296 := ⟨_, rfl⟩
              rw [← ha, ← hb, ← hq]
              rw [← hq] at e5
              have h9 : (a + b + q) % 4294967296 * P + (a + b + q) / 4294967296 * (P * 4294967296) = (a + b + q) * P := by
                have := Nat.div_add_mod (a + b + q) 4294967296
                have h10 : (4294967296 * ((a + b + q) / 4294967296) + (a + b + q) % 4294967296) * P = (a + b + q) * P := by rw [this]
                rw [← h10, Nat.add_mul, Nat.mul_comm P, ← Nat.mul_assoc, Nat.mul_comm 4294967296 ((a + b + q) / 4294967296)]
                omega
              rw [Nat.add_mul, Nat.add_mul] at h9
              omega) (by
          intro o ho
          obtain ⟨w, f, v⟩ := o
          obtain ⟨e1, e2, e3⟩ := ho
          dsimp only at e1 e2 e3 ⊢
          subst e1
          obtain ⟨r, e, hr⟩ := addT_ok h2 (by omega) h1 e2 e3
          exact ⟨r, e, fin _ hr⟩)
  unfold f_J16_add_2
  simp only [lt_eq, lti_eq, ltl_eq]
  rw [ite_leI (by omega) (by omega)]
  by_cases c1 : n' ≤ n
  · rw [if_pos c1]
    obtain ⟨⟨m, g⟩, e, g1, g2⟩ := key (x := c) (y := c') c1 hn h0' h
    unfold addT at e
    simp only [lt_eq, lti_eq, ltl_eq] at e
    dsimp only at g1 g2
    exact ⟨m, g, e, by omega, g2⟩
  · rw [if_neg c1]
    obtain ⟨⟨m, g⟩, e, g1, g2, g3⟩ := key (x := c') (y := c) (by omega) hn' h0 h'
    unfold addT at e
    simp only [lt_eq, lti_eq, ltl_eq] at e
    dsimp only at g1 g2 g3
    exact ⟨m, g, e, by omega, by rw [g2, Nat.add_comm], g3⟩
theorem bmod_small {x : Int} (h1 : -9223372036854775808 ≤ x) (h2 : x < 9223372036854775808) : x.bmod (2 ^ 64) = x := Int.bmod_eq_of_le (by omega) (by omega)
theorem toInt_word (x : Int32) : (x.toInt64 &&& 4294967295).toInt = (wd x : Int) := uL_toInt (uL_and x) (by have := wd_lt x; omega)
theorem toInt_sub' {a b : Int64} (h1 : -9223372036854775808 ≤ a.toInt - b.toInt) (h2 : a.toInt - b.toInt < 9223372036854775808) : (a - b).toInt = a.toInt - b.toInt := by rw [Int64.toInt_sub]; exact bmod_small h1 h2
theorem toInt_add' {a b : Int64} (h1 : -9223372036854775808 ≤ a.toInt + b.toInt) (h2 : a.toInt + b.toInt < 9223372036854775808) : (a + b).toInt = a.toInt + b.toInt := by rw [Int64.toInt_add]; exact bmod_small h1 h2
theorem toInt_shr32 (v : Int64) : (v >>> ((32 : Int32).toInt64 &&& 63)).toInt = v.toInt / 4294967296 := by
  have e : ((32 : Int32).toInt64 &&& 63) = 32 := by decide
  rw [e]
  show (v >>> 32).toBitVec.toInt = _
  rw [Int64.toBitVec_shiftRight]
  have : (Int64.toBitVec 32).smod 64 = 32#64 := by decide
  rw [this, BitVec.sshiftRight', BitVec.toInt_sshiftRight, Int.shiftRight_eq_div_pow]
  rfl
theorem wd_of_toInt (v : Int64) : (wd v.toInt32 : Int) = v.toInt % 4294967296 := by
  rw [wd_l2i]
  have h1 : v.toInt = v.toBitVec.toInt := rfl
  have h2 : uL v = v.toBitVec.toNat := rfl
  rw [h1, h2, BitVec.toInt_eq_toNat_cond]
  have := v.toBitVec.isLt
  split <;> omega
theorem wd_s1 (x : Int32) : wd (x - 1) = (wd x + 4294967295) % 4294967296 := by
  unfold wd; rw [Int32.toUInt32_sub, UInt32.toNat_sub]
  show (4294967296 - 1 + _) % _ = _
  congr 1; omega
/-- the part of subtract behind the first words -/
noncomputable def subT (x0n : Nat) (x0c : Nat → Int32) (n2 : Nat) (w : Int32 × (Nat → Int32) × Int64) : Option (Nat × (Nat → Int32)) :=
  ltl ((w.2.2 : Int64) >>> ((32 : Int32).toInt64 &&& 63)) fun v47 =>
  lti (lg_cmp v47 0) fun v48 =>
  (if v48 = 0 then
    lt (fun (_u : Unit) =>
    (show Option (Sum (Unit) (Unit)) from (
    (if w.1 ≤ 0 then
      some (.inr ())
    else
      some (.inr ())
    )
    ))
    ) fun F52 =>
    Option.bind (lp 41 (fun x => F52 x) ()) fun w53 =>
    lt (fun (v57 : Int32) (f58 : Nat → Int32) =>
    (show Option (Sum (Int32 × (Nat → Int32)) ((Nat → Int32))) from (
    (if v57 ≤ 0 then
      some (.inr f58)
    else
      lti (v57 + (-1)) fun v70 =>
      gd x0n v70 fun i71 =>
      lti (x0c i71) fun v72 =>
      gd n2 v70 fun i73 =>
      lt (va_up f58 i73 v72) fun f74 =>
      some (.inl (v70, f74))
    )
    ))
    ) fun F66 =>
    Option.bind (lp 41 (fun x => F66 x.1 x.2) (w.1, w.2.1)) fun w67 =>
    some (n2, w67)
  else
    lt (fun (v75 : Int32) (f76 : Nat → Int32) (v77 : Bool) =>
    (show Option (Sum (Int32 × (Nat → Int32) × Bool) (Int32 × (Nat → Int32))) from (
    (if v75 ≤ 0 then
      some (.inr (v75, f76))
    else
      (if v77 = true then
        lti (v75 + (-1)) fun v94 =>
        gd x0n v94 fun i95 =>
        lti (x0c i95) fun v96 =>
        lti (v96 - 1) fun v97 =>
        gd n2 v94 fun i98 =>
        lt (va_up f76 i98 v97) fun f99 =>
        lt (fun (v100 : Bool) =>
        some (.inl (v94, f99, v100))
        ) fun K101 =>
        (if v97 = (-1) then
          K101 true
        else
          K101 false
        )
      else
        some (.inr (v75, f76))
      )
    )
    ))
    ) fun F89 =>
    Option.bind (lp 41 (fun x => F89 x.1 x.2.1 x.2.2) (w.1, w.2.1, true)) fun w90 =>
    lt (fun (v103 : Int32) (f104 : Nat → Int32) =>
    (show Option (Sum (Int32 × (Nat → Int32)) ((Nat → Int32))) from (
    (if v103 ≤ 0 then
      some (.inr f104)
    else
      lti (v103 + (-1)) fun v116 =>
      gd x0n v116 fun i117 =>
      lti (x0c i117) fun v118 =>
      gd n2 v116 fun i119 =>
      lt (va_up f104 i119 v118) fun f120 =>
      some (.inl (v116, f120))
    )
    ))
    ) fun F112 =>
    Option.bind (lp 41 (fun x => F112 x.1 x.2) (w90.1, w90.2)) fun w113 =>
    some (n2, w113)
  )
/-- the words that are left are copied -/
theorem copy2_ok {β : Type} {n t : Nat} {x f : Nat → Int32} {E E' : Nat} {K : (Nat → Int32) → Option β} {Q : β → Prop} (hn : n ≤ 12) (ht : t ≤ n) (h : tv f n t + E' = tv x n t + E) (hK : ∀ g, bv g n + E' = bv x n + E → ∃ r, K g = some r ∧ Q r) :
    ∃ r, Option.bind (lp 41 (fun (p : Int32 × (Nat → Int32)) => (show Option (Sum (Int32 × (Nat → Int32)) (Nat → Int32)) from (if p.1 ≤ 0 then some (.inr p.2) else gd n (p.1 + (-1)) fun i38 => gd n (p.1 + (-1)) fun i40 => some (.inl (p.1 + (-1), va_up p.2 i40 (x i38)))))) (nI (n - t), f)) K = some r ∧ Q r := by
  refine lp_bind (fun k p => ∃ t, t + k = n ∧ p.1 = nI (n - t) ∧ tv p.2 n t + E' = tv x n t + E) (fun g => bv g n + E' = bv x n + E) (n - t) (by omega) ⟨t, by omega, rfl, h⟩ ?_ hK
  intro k p hI
  obtain ⟨v, g⟩ := p
  obtain ⟨t, e1, e2, e3⟩ := hI
  dsimp only at e2 e3 ⊢
  subst e2
  rw [ite_le0 (by omega)]
  by_cases c : n - t = 0
  · rw [if_pos c]
    refine ⟨_, rfl, ?_⟩
    have : t = n := by omega
    subst this
    rw [tv_all, tv_all] at e3
    exact e3
  · rw [if_neg c, nI_tk (by omega) (by omega), gd_in rfl (by omega) (by omega), gd_in rfl (by omega) (by omega)]
    refine ⟨_, rfl, k - 1, by omega, t + 1, by omega, rfl, ?_⟩
    show tv (va_up g (n - (t + 1)) (x (n - (t + 1)))) n (t + 1) + E' = _
    rw [tv_new (by omega), tv_succ x (by omega)]; omega
theorem subT_ok {n t b : Nat} {x f : Nat → Int32} {v : Int64} {E : Nat} (hn : n ≤ 12) (ht : t ≤ n) (hv : v.toInt / 4294967296 = -(b : Int)) (hb : b ≤ 1) (hE : E ≤ bv x n) (h : tv f n t + E = tv x n t + b * 4294967296 ^ t) :
    ∃ r, subT n x n (nI (n - t), f, v) = some r ∧ r.1 = n ∧ bv r.2 n + E = bv x n := by
  unfold subT
  simp only [lt_eq, lti_eq, ltl_eq]
  rw [lcmp0, toInt_shr32, hv]
  by_cases c0 : b = 0
  · subst c0
    rw [show (if (0 : Int) < -((0 : Nat) : Int) then (1 : Int32) else if -((0 : Nat) : Int) = 0 then 0 else -1) = 0 from rfl, if_pos rfl]
    rw [Nat.zero_mul, Nat.add_zero] at h
    refine lp_bind (fun k _ => k = 0) (fun _ => True) 0 (by decide) rfl (fun k p hI => ?_) (fun o _ => ?_)
    · by_cases c1 : nI (n - t) ≤ 0
      · rw [if_pos c1]; exact ⟨_, rfl, trivial⟩
      · rw [if_neg c1]; exact ⟨_, rfl, trivial⟩
    · exact copy2_ok (E := 0) hn ht h fun g hg => ⟨_, rfl, rfl, hg⟩
  · have c1 : b = 1 := by omega
    subst c1
    rw [show (if (0 : Int) < -((1 : Nat) : Int) then (1 : Int32) else if -((1 : Nat) : Int) = 0 then 0 else -1) = -1 from rfl, if_neg (by decide)]
    rw [Nat.one_mul] at h
    refine lp_bind (fun k p => ∃ t, t + k = n ∧ p.1 = nI (n - t) ∧ tv p.2.1 n t + E = tv x n t + (if p.2.2 = true then 1 else 0) * 4294967296 ^ t) (fun o => ∃ t, t ≤ n ∧ o.1 = nI (n - t) ∧ tv o.2 n t + E = tv x n t)
      (n - t) (by omega) ⟨t, by omega, rfl, by rw [if_pos rfl, Nat.one_mul]; exact h⟩ ?_ ?_
    · intro k p hI
      obtain ⟨w, g, b⟩ := p
      obtain ⟨t, e1, e2, e3⟩ := hI
      dsimp only at e2 e3 ⊢
      subst e2
      rw [ite_le0 (by omega)]
      by_cases d0 : n - t = 0
      · rw [if_pos d0]
        have : t = n := by omega
        subst this
        refine ⟨_, rfl, t, by omega, rfl, ?_⟩
        cases b with
        | false => rw [if_neg (by decide), Nat.zero_mul, Nat.add_zero] at e3; exact e3
        | true =>
          rw [if_pos rfl, Nat.one_mul] at e3
          have := tv_lt g t t
          rw [tv_all x] at e3
          omega
      · rw [if_neg d0]
        cases b with
        | false =>
          rw [if_neg (by decide)]
          rw [if_neg (by decide), Nat.zero_mul, Nat.add_zero] at e3
          exact ⟨_, rfl, t, by omega, rfl, e3⟩
        | true =>
          rw [if_pos rfl, nI_tk (by omega) (by omega), gd_in rfl (by omega) (by omega), gd_in rfl (by omega) (by omega)]
          rw [if_pos rfl, Nat.one_mul] at e3
          have hw := wd_s1 (x (n - (t + 1)))
          have hl := wd_lt (x (n - (t + 1)))
          have hm : (x (n - (t + 1)) - 1 = -1) = (wd (x (n - (t + 1)) - 1) = 4294967295) := by
            simp only [eq_iff_iff]
            exact ⟨fun e => by rw [e]; rfl, fun e => wd_inj (by rw [e]; rfl)⟩
          have hbb : (if x (n - (t + 1)) - 1 = -1 then (some (Sum.inl (nI (n - (t + 1)), va_up g (n - (t + 1)) (x (n - (t + 1)) - 1), true)) : Option (Sum (Int32 × (Nat → Int32) × Bool) (Int32 × (Nat → Int32)))) else some (Sum.inl (nI (n - (t + 1)), va_up g (n - (t + 1)) (x (n - (t + 1)) - 1), false))) =
            some (Sum.inl (nI (n - (t + 1)), va_up g (n - (t + 1)) (x (n - (t + 1)) - 1), decide (wd (x (n - (t + 1)) - 1) = 4294967295))) := by
            by_cases z : x (n - (t + 1)) - 1 = -1
            · rw [if_pos z, decide_eq_true (hm ▸ z)]
            · rw [if_neg z, decide_eq_false (fun y => z (hm ▸ y))]
          rw [hbb]
          refine ⟨_, rfl, k - 1, by omega, t + 1, by omega, rfl, ?_⟩
          show tv (va_up g (n - (t + 1)) _) n (t + 1) + E = _ + (if decide (wd (x (n - (t + 1)) - 1) = 4294967295) = true then 1 else 0) * 4294967296 ^ (t + 1)
          rw [tv_new (by omega), tv_succ x (by omega), Nat.pow_succ]
          by_cases z : wd (x (n - (t + 1)) - 1) = 4294967295
          · rw [decide_eq_true z, if_pos rfl, z]
            have : wd (x (n - (t + 1))) = 0 := by omega
            rw [this]; omega
          · rw [decide_eq_false z, if_neg (by decide)]
            have : wd (x (n - (t + 1))) = wd (x (n - (t + 1)) - 1) + 1 := by omega
            rw [this, Nat.add_mul]; omega
    · intro o ho
      obtain ⟨w, g⟩ := o
      obtain ⟨t, e1, e2, e3⟩ := ho
      dsimp only at e2 e3 ⊢
      subst e2
      exact copy2_ok (E := 0) hn e1 e3 fun g hg => ⟨_, rfl, rfl, hg⟩
set_option maxHeartbeats 1000000 in
theorem sub_ok {n n' : Nat} {c c' : Nat → Int32} (hn : n ≤ 12) (hn' : n' ≤ n) (hlt : bv c' n' ≤ bv c n) :
    ∃ g, f_J16_subtract n c n' c' = some (n, g) ∧ bv g n + bv c' n' = bv c n := by
  have key : ∃ r, (gl 12 (nI n) fun n2 => Option.bind (lp 41 (fun (p : Int32 × (Nat → Int32) × Int32 × Int64) => (show Option (Sum (Int32 × (Nat → Int32) × Int32 × Int64) (Int32 × (Nat → Int32) × Int64)) from (if p.2.2.1 ≤ 0 then some (.inr (p.1, p.2.1, p.2.2.2)) else
          gd n (p.1 + (-1)) fun i32 => gd n' (p.2.2.1 + (-1)) fun i37 => gd n2 (p.1 + (-1)) fun i45 =>
            some (.inl (p.1 + (-1), va_up p.2.1 i45 ((((c i32).toInt64 &&& 4294967295) - ((c' i37).toInt64 &&& 4294967295)) + (p.2.2.2 >>> ((32 : Int32).toInt64 &&& 63))).toInt32, p.2.2.1 + (-1), (((c i32).toInt64 &&& 4294967295) - ((c' i37).toInt64 &&& 4294967295)) + (p.2.2.2 >>> ((32 : Int32).toInt64 &&& 63))))))) (nI n, (fun _ => 0), nI n', 0)) fun w => subT n c n2 w) = some r ∧ r.1 = n ∧ bv r.2 n + bv c' n' = bv c n := by
    rw [gl_in rfl (by omega) (by decide)]
    refine lp_bind (fun k p => ∃ t b : Nat, t + k = n' ∧ p.1 = nI (n - t) ∧ p.2.2.1 = nI (n' - t) ∧ p.2.2.2.toInt / 4294967296 = -(b : Int) ∧ b ≤ 1 ∧ tv p.2.1 n t + tv c' n' t = tv c n t + b * 4294967296 ^ t)
      (fun o => ∃ b : Nat, o.1 = nI (n - n') ∧ o.2.2.toInt / 4294967296 = -(b : Int) ∧ b ≤ 1 ∧ tv o.2.1 n n' + bv c' n' = tv c n n' + b * 4294967296 ^ n')
      n' (by omega) ⟨0, 0, by omega, rfl, rfl, (by show (0 : Int64).toInt / 4294967296 = -((0 : Nat) : Int); decide), by decide, (by show tv _ n 0 + tv c' n' 0 = tv c n 0 + 0 * _; rw [tv_zero, tv_zero, tv_zero, Nat.zero_mul])⟩ ?_ ?_
    · intro k p hI
      obtain ⟨vx, f, vy, v⟩ := p
      obtain ⟨t, b, e1, e2, e3, e4, e4', e5⟩ := hI
      dsimp only at e2 e3 e4 e5 ⊢
      subst e2; subst e3
      rw [ite_le0 (by omega)]
      by_cases d0 : n' - t = 0
      · rw [if_pos d0]
        have : t = n' := by omega
        subst this
        exact ⟨_, rfl, b, rfl, e4, e4', by rw [tv_all] at e5; exact e5⟩
      · rw [if_neg d0, nI_tk (by omega) (by omega), nI_tk (by omega) (by omega), gd_in rfl (by omega) (by omega), gd_in rfl (by omega) (by omega), gd_in rfl (by omega) (by omega)]
        have hl1 := wd_lt (c (n - (t + 1)))
        have hl2 := wd_lt (c' (n' - (t + 1)))
        obtain ⟨a, ha⟩ : ∃ a, a = wd (c (n - (t + 1))) := ⟨_, rfl⟩
        obtain ⟨z, hz⟩ : ∃ z, z = wd (c' (n' - (t + 1))) := ⟨_, rfl⟩
        rw [← ha] at hl1
        rw [← hz] at hl2
        have hd0 : (((c (n - (t + 1))).toInt64 &&& 4294967295) - ((c' (n' - (t + 1))).toInt64 &&& 4294967295)).toInt = (a : Int) - z := by
          rw [toInt_sub' (by rw [toInt_word, toInt_word]; omega) (by rw [toInt_word, toInt_word]; omega), toInt_word, toInt_word, ha, hz]
        have hd : ((((c (n - (t + 1))).toInt64 &&& 4294967295) - ((c' (n' - (t + 1))).toInt64 &&& 4294967295)) + (v >>> ((32 : Int32).toInt64 &&& 63))).toInt = (a : Int) - z - b := by
          rw [toInt_add' (by rw [hd0, toInt_shr32, e4]; omega) (by rw [hd0, toInt_shr32, e4]; omega), hd0, toInt_shr32, e4]; omega
        have hlow := wd_of_toInt ((((c (n - (t + 1))).toInt64 &&& 4294967295) - ((c' (n' - (t + 1))).toInt64 &&& 4294967295)) + (v >>> ((32 : Int32).toInt64 &&& 63)))
        rw [hd] at hlow
        obtain ⟨b', hb', hb1, hbl⟩ : ∃ b' : Nat, ((a : Int) - z - b) / 4294967296 = -(b' : Int) ∧ b' ≤ 1 ∧ ((a : Int) - z - b) % 4294967296 = (a : Int) - z - b + b' * 4294967296 := by
          by_cases q : z + b ≤ a
          · exact ⟨0, by omega, by omega, by omega⟩
          · exact ⟨1, by omega, by omega, by omega⟩
        refine ⟨_, rfl, k - 1, by omega, t + 1, b', by omega, rfl, rfl, ?_, hb1, ?_⟩
        · show ((((c (n - (t + 1))).toInt64 &&& 4294967295) - ((c' (n' - (t + 1))).toInt64 &&& 4294967295)) + (v >>> ((32 : Int32).toInt64 &&& 63))).toInt / 4294967296 = _
          rw [hd]; exact hb'
        · show tv (va_up f (n - (t + 1)) _) n (t + 1) + tv c' n' (t + 1) = _
          rw [tv_new (by omega), tv_succ c (by omega), tv_succ c' (by omega), Nat.pow_succ, ← ha, ← hz]
          obtain ⟨lw, hlw⟩ : ∃ lw, lw = wd ((((c (n - (t + 1))).toInt64 &&& 4294967295) - ((c' (n' - (t + 1))).toInt64 &&& 4294967295)) + (v >>> ((32 : Int32).toInt64 &&& 63))).toInt32 := ⟨_, rfl⟩
          rw [← hlw] at hlow ⊢
          have h9 : lw + z + b = a + b' * 4294967296 := by omega
          obtain ⟨P, hP⟩ : ∃ P, P = 4294967296 ^ t := ⟨_, rfl⟩
          rw [← hP] at e5 ⊢
          have h10 : (lw + z + b) * P = (a + b' * 4294967296) * P := by rw [h9]
          rw [Nat.add_mul, Nat.add_mul, Nat.add_mul] at h10
          rw [Nat.mul_comm P, ← Nat.mul_assoc]
          omega
    · intro o ho
      obtain ⟨w, f, v⟩ := o
      obtain ⟨b, e1, e2, e3, e4⟩ := ho
      dsimp only at e1 e2 e4 ⊢
      subst e1
      exact subT_ok hn hn' e2 e3 hlt e4
  unfold f_J16_subtract
  simp only [lt_eq, lti_eq, ltl_eq]
  obtain ⟨⟨m, g⟩, e, g1, g2⟩ := key
  unfold subT at e
  simp only [lt_eq, lti_eq, ltl_eq] at e
  dsimp only at g1 g2
  subst g1
  exact ⟨g, e, g2⟩
/-- magnitudes of unlike size: their difference, with the sign s for the first one's being the greater -/
theorem diff_ok {n n' : Nat} {c c' : Nat → Int32} {s s2 s2' : Int32} (hn : n ≤ 12) (hn' : n' ≤ 12) (h : 0 < n → c 0 ≠ 0) (h' : 0 < n' → c' 0 ≠ 0) (hs : s = 1 ∨ s = -1) :
    ∃ r : Int32 × Nat × (Nat → Int32), ((f_J16_compareMagnitude s2 n c s2' n' c').bind fun o4 => (if o4 = 0 then some (0, 0, (fun _ => 0)) else
      if o4 ≤ 0 then (f_J16_subtract n' c' n c).bind fun o17 => (f_J16_trustedStripLeadingZeroInts o17.1 o17.2).bind fun o10 => (if o4 = s then (f_J16_init_2 o10.1 o10.2 1).bind fun o15 => some (o15, o10.1, o10.2) else (f_J16_init_2 o10.1 o10.2 (-1)).bind fun o14 => some (o14, o10.1, o10.2))
      else (f_J16_subtract n c n' c').bind fun o19 => (f_J16_trustedStripLeadingZeroInts o19.1 o19.2).bind fun o10 => (if o4 = s then (f_J16_init_2 o10.1 o10.2 1).bind fun o15 => some (o15, o10.1, o10.2) else (f_J16_init_2 o10.1 o10.2 (-1)).bind fun o14 => some (o14, o10.1, o10.2)))) = some r ∧
      Bg (max n n') ((if s = 1 then 1 else -1) * ((bv c n : Int) - bv c' n')) r.1 r.2.1 r.2.2 := by
  rw [cmpMag_ok hn hn' h h', Option.bind_some]
  have fin : ∀ {m : Nat} {g : Nat → Int32} {z : Int32} {v : Int}, m ≤ max n n' → bv g m = v.natAbs → (0 < m → g 0 ≠ 0) → v ≠ 0 → z = (if 0 < v then 1 else -1) → ∃ r : Int32 × Nat × (Nat → Int32), ((f_J16_init_2 m g z).bind fun o15 => some (o15, m, g)) = some r ∧ Bg (max n n') v r.1 r.2.1 r.2.2 := by
    intro m g z v h1 h2 h3 h4 h5
    have hm : 0 < m := by
      rcases Nat.eq_zero_or_pos m with e | e
      · subst e
        have : (0 : Nat) = v.natAbs := h2
        omega
      · exact e
    rw [init2_ok hm (by omega), Option.bind_some]
    exact ⟨_, rfl, h1, h2, h3, by rw [if_neg h4]; exact h5⟩
  have hlen : ∀ {a b : Nat} {d e : Nat → Int32}, (0 < a → d 0 ≠ 0) → bv d a < bv e b → a ≤ b := by
    intro a b d e hd hlt
    exact len_of hd (Nat.lt_trans hlt (bv_lt e b))
  rcases Nat.lt_trichotomy (bv c n) (bv c' n') with q | q | q
  · rw [if_pos q, if_neg (by decide), if_pos (by decide)]
    have hl := hlen h q
    obtain ⟨g, e, hg⟩ := sub_ok (c := c') (c' := c) hn' hl (by omega)
    rw [e, Option.bind_some]
    obtain ⟨m, g', e', m1, m2, m3⟩ := strip_ok (c := g) hn'
    rw [e', Option.bind_some]
    rcases hs with rfl | rfl
    · rw [if_neg (by decide), if_pos rfl]
      exact fin (by show m ≤ _; omega) (by show bv g' m = _; rw [m2]; omega) m3 (by omega) (by rw [if_neg (by omega)])
    · rw [if_pos rfl, if_neg (by decide)]
      exact fin (by show m ≤ _; omega) (by show bv g' m = _; rw [m2]; omega) m3 (by omega) (by rw [if_pos (by omega)])
  · rw [if_neg (show ¬ bv c n < bv c' n' by omega), if_pos q, if_pos rfl]
    refine ⟨_, rfl, ?_⟩
    rw [q, Int.sub_self, Int.mul_zero]
    exact Bg.of0 _ _
  · rw [if_neg (show ¬ bv c n < bv c' n' by omega), if_neg (show ¬ bv c n = bv c' n' by omega), if_neg (by decide), if_neg (by decide)]
    have hl := hlen h' q
    obtain ⟨g, e, hg⟩ := sub_ok (c := c) (c' := c') hn hl (by omega)
    rw [e, Option.bind_some]
    obtain ⟨m, g', e', m1, m2, m3⟩ := strip_ok (c := g) hn
    rw [e', Option.bind_some]
    rcases hs with rfl | rfl
    · rw [if_pos rfl, if_pos rfl]
      exact fin (by show m ≤ _; omega) (by show bv g' m = _; rw [m2]; omega) m3 (by omega) (by rw [if_pos (by omega)])
    · rw [if_neg (by decide), if_neg (by decide)]
      exact fin (by show m ≤ _; omega) (by show bv g' m = _; rw [m2]; omega) m3 (by omega) (by rw [if_neg (by omega)])
theorem Bg.up {N M n : Nat} {v : Int} {s : Int32} {c : Nat → Int32} (h : Bg N v s n c) (hm : N ≤ M) : Bg M v s n c := ⟨Nat.le_trans h.1 hm, h.2⟩
theorem negate_ok {N n : Nat} {v : Int} {s : Int32} {c : Nat → Int32} (h : Bg N v s n c) (hv : v ≠ 0) (hN : N ≤ 12) : ∃ s', f_J16_negate s n c = some (s', n, c) ∧ Bg N (-v) s' n c := by
  obtain ⟨a1, a2, a3, a4⟩ := h.ne hv
  obtain ⟨p1, p2, p3, p4⟩ := h
  unfold f_J16_negate
  simp only [lti_eq]
  rw [init2_ok a1 (by omega), Option.bind_some]
  refine ⟨_, rfl, p1, by rw [p2]; omega, p3, ?_⟩
  rw [a3]
  by_cases c0 : 0 < v
  · rw [if_pos c0, if_neg (by omega), if_neg (by omega)]
  · rw [if_neg c0, if_neg (by omega), if_pos (by omega)]; rfl
theorem abs_ok {N n : Nat} {v : Int} {s : Int32} {c : Nat → Int32} (h : Bg N v s n c) (hN : N ≤ 12) : ∃ s', f_J16_abs s n c = some (s', n, c) ∧ Bg N (v.natAbs : Int) s' n c := by
  unfold f_J16_abs
  by_cases hv : v < 0
  · obtain ⟨s', e, hb⟩ := negate_ok h (by omega) hN
    obtain ⟨a1, a2, a3, a4⟩ := h.ne (show v ≠ 0 by omega)
    rw [if_pos (by rw [a3, if_neg (by omega)]; decide), e, Option.bind_some]
    exact ⟨s', rfl, by rw [show (v.natAbs : Int) = -v by omega]; exact hb⟩
  · have e0 : ¬ s < 0 := by
      rw [h.2.2.2]
      by_cases c0 : v = 0
      · rw [if_pos c0]; decide
      · rw [if_neg c0, if_pos (by omega)]; decide
    rw [if_neg e0]
    exact ⟨s, rfl, by rw [show (v.natAbs : Int) = v by omega]; exact h⟩
theorem Bg.val {N n : Nat} {v : Int} {s : Int32} {c : Nat → Int32} (h : Bg N v s n c) : v = (if s = 1 then 1 else -1) * (bv c n : Int) := by
  obtain ⟨p1, p2, p3, p4⟩ := h
  rw [p2, p4]
  by_cases c0 : v = 0
  · subst c0; rfl
  · rw [if_neg c0]
    by_cases c1 : 0 < v
    · rw [if_pos c1, if_pos rfl]; omega
    · rw [if_neg c1, if_neg (by decide)]; omega
theorem sgn_two {v : Int} (hv : v ≠ 0) : ∀ {s : Int32}, s = (if 0 < v then 1 else -1) → s = 1 ∨ s = -1 := by
  intro s e
  by_cases c : 0 < v
  · rw [if_pos c] at e; exact Or.inl e
  · rw [if_neg c] at e; exact Or.inr e
theorem sums_ok {n n' : Nat} {c c' : Nat → Int32} {s : Int32} {v : Int} (hn : n ≤ 11) (hn' : n' ≤ 11) (h0 : 0 < n) (h0' : 0 < n') (h : c 0 ≠ 0) (h' : c' 0 ≠ 0) (hs : s = 1 ∨ s = -1) (hv : v = (if s = 1 then 1 else -1) * ((bv c n : Int) + bv c' n')) :
    ∃ r : Int32 × Nat × (Nat → Int32), ((f_J16_add_2 n c n' c').bind fun o23 => (f_J16_init_2 o23.1 o23.2 s).bind fun o25 => some (o25, o23.1, o23.2)) = some r ∧ Bg (max n n' + 1) v r.1 r.2.1 r.2.2 := by
  obtain ⟨m, g, e, m1, m2, m3, m4⟩ := add2_ok hn hn' h0 h0' h h'
  rw [e, Option.bind_some, init2_ok m4 (by show m ≤ 12; omega), Option.bind_some]
  have hp : 0 < bv g m := by
    obtain ⟨m', rfl⟩ : ∃ m', m = m' + 1 := ⟨m - 1, by omega⟩
    have := bv_low (n := m') m3
    have : 0 < 4294967296 ^ m' := Nat.pow_pos (by decide)
    omega
  refine ⟨_, rfl, m1, ?_, fun _ => m3, ?_⟩
  · show bv g m = _
    rcases hs with rfl | rfl
    · rw [if_pos rfl] at hv; omega
    · rw [if_neg (by decide)] at hv; omega
  · show s = _
    rcases hs with rfl | rfl
    · rw [if_pos rfl] at hv
      rw [if_neg (by omega), if_pos (by omega)]
    · rw [if_neg (by decide)] at hv
      rw [if_neg (by omega), if_neg (by omega)]
theorem sum_ok {N M n n' : Nat} {v w : Int} {s s' : Int32} {c c' : Nat → Int32} (h : Bg N v s n c) (h' : Bg M w s' n' c') (hN : N ≤ 11) (hM : M ≤ 11) :
    ∃ s2 m g, f_J16_add s n c s' n' c' = some (s2, m, g) ∧ Bg (max N M + 1) (v + w) s2 m g := by
  unfold f_J16_add
  simp only [lt_eq]
  by_cases hw : w = 0
  · subst hw
    rw [if_pos h'.zero.1, Int.add_zero]
    exact ⟨_, _, _, rfl, h.up (by omega)⟩
  · obtain ⟨a1, a2, a3, a4⟩ := h'.ne hw
    rw [if_neg a4]
    by_cases hv : v = 0
    · subst hv
      rw [if_pos h.zero.1, Int.zero_add]
      exact ⟨_, _, _, rfl, h'.up (by omega)⟩
    · obtain ⟨b1, b2, b3, b4⟩ := h.ne hv
      rw [if_neg b4]
      have ev := h.val
      have ew := h'.val
      obtain ⟨p1, p2, p3, p4⟩ := h
      obtain ⟨q1, q2, q3, q4⟩ := h'
      have hs := sgn_two hv b3
      by_cases cs : s' = s
      · rw [if_pos cs]
        rw [cs] at ew
        obtain ⟨⟨s2, m, g⟩, e, hb⟩ := sums_ok (s := s) (v := v + w) (show n ≤ 11 by omega) (show n' ≤ 11 by omega) b1 a1 b2 a2 hs (by rw [Int.mul_add, ← ev, ← ew])
        exact ⟨s2, m, g, e, hb.up (by omega)⟩
      · rw [if_neg cs]
        obtain ⟨⟨s2, m, g⟩, e, hb⟩ := diff_ok (s2 := s) (s2' := s') (show n ≤ 12 by omega) (show n' ≤ 12 by omega) (fun _ => b2) (fun _ => a2) hs
        refine ⟨s2, m, g, e, ?_⟩
        have : v + w = (if s = 1 then 1 else -1) * ((bv c n : Int) - bv c' n') := by
          rw [Int.mul_sub, ← ev]
          have hs' := sgn_two hw a3
          rcases hs with rfl | rfl <;> rcases hs' with rfl | rfl
          · exact absurd rfl cs
          · rw [if_neg (by decide)] at ew
            rw [if_pos rfl]; omega
          · rw [if_pos rfl] at ew
            rw [if_neg (by decide)]; omega
          · exact absurd rfl cs
        rw [this]
        exact hb.up (by omega)
theorem subt_ok {N M n n' : Nat} {v w : Int} {s s' : Int32} {c c' : Nat → Int32} (h : Bg N v s n c) (h' : Bg M w s' n' c') (hN : N ≤ 11) (hM : M ≤ 11) :
    ∃ s2 m g, f_J16_subtract_2 s n c s' n' c' = some (s2, m, g) ∧ Bg (max N M + 1) (v - w) s2 m g := by
  unfold f_J16_subtract_2
  simp only [lt_eq]
  by_cases hw : w = 0
  · subst hw
    rw [if_pos h'.zero.1, Int.sub_zero]
    exact ⟨_, _, _, rfl, h.up (by omega)⟩
  · obtain ⟨a1, a2, a3, a4⟩ := h'.ne hw
    rw [if_neg a4]
    by_cases hv : v = 0
    · subst hv
      obtain ⟨s2, e, hb⟩ := negate_ok h' hw (by omega)
      rw [if_pos h.zero.1, e, Option.bind_some, Int.zero_sub]
      exact ⟨_, _, _, rfl, hb.up (by omega)⟩
    · obtain ⟨b1, b2, b3, b4⟩ := h.ne hv
      rw [if_neg b4]
      have ev := h.val
      have ew := h'.val
      obtain ⟨p1, p2, p3, p4⟩ := h
      obtain ⟨q1, q2, q3, q4⟩ := h'
      have hs := sgn_two hv b3
      by_cases cs : s' = s
      · rw [if_pos cs]
        rw [cs] at ew
        obtain ⟨⟨s2, m, g⟩, e, hb⟩ := diff_ok (s2 := s) (s2' := s') (show n ≤ 12 by omega) (show n' ≤ 12 by omega) (fun _ => b2) (fun _ => a2) hs
        refine ⟨s2, m, g, e, ?_⟩
        rw [Int.mul_sub, ← ev, ← ew] at hb
        exact hb.up (by omega)
      · rw [if_neg cs]
        have : v - w = (if s = 1 then 1 else -1) * ((bv c n : Int) + bv c' n') := by
          rw [Int.mul_add, ← ev]
          have hs' := sgn_two hw a3
          rcases hs with rfl | rfl <;> rcases hs' with rfl | rfl
          · exact absurd rfl cs
          · rw [if_neg (by decide)] at ew
            rw [if_pos rfl]; omega
          · rw [if_pos rfl] at ew
            rw [if_neg (by decide)]; omega
          · exact absurd rfl cs
        obtain ⟨⟨s2, m, g⟩, e, hb⟩ := sums_ok (s := s) (v := v - w) (show n ≤ 11 by omega) (show n' ≤ 11 by omega) b1 a1 b2 a2 hs this
        exact ⟨s2, m, g, e, hb.up (by omega)⟩
/-- the words of a value shifted right by r bits -/
def sw (c : Nat → Int32) (r : Nat) (j : Nat) : Int32 := ((c (j + 1)).toUInt32 >>> ((nI r).toUInt32 &&& Int32.toUInt32 31)).toInt32 ||| c j <<< (nI (32 - r) &&& 31)
theorem wd_shr_or (x y : Int32) {r : Nat} (hr : 0 < r) (hr2 : r < 32) :
    wd ((x.toUInt32 >>> ((nI r).toUInt32 &&& Int32.toUInt32 31)).toInt32 ||| y <<< (nI (32 - r) &&& 31)) = wd x / 2 ^ r + wd y % 2 ^ r * 2 ^ (32 - r) := by
  rw [wd_or, wd_shl y (by omega), wd_shr x hr2, shl_mod (by omega), show 32 - (32 - r) = r by omega, Nat.or_comm, Nat.add_comm]
  apply nat_or_add
  have h := wd_lt x
  rw [← pow_32 (r := r) (by omega)] at h
  exact Nat.div_lt_of_lt_mul (by rw [Nat.mul_comm]; exact h)
theorem shr_step {a x y r : Nat} (hr : r ≤ 32) : (a * 4294967296 + x) / 2 ^ r * 4294967296 + (y / 2 ^ r + x % 2 ^ r * 2 ^ (32 - r)) = ((a * 4294967296 + x) * 4294967296 + y) / 2 ^ r := by
  have hB := pow_32 hr
  have hp : 0 < 2 ^ r := Nat.pow_pos (by decide)
  have h1 : ((a * 4294967296 + x) * 4294967296 + y) / 2 ^ r = (a * 4294967296 + x) * 2 ^ (32 - r) + y / 2 ^ r := by
    rw [show (a * 4294967296 + x) * 4294967296 + y = y + 2 ^ r * ((a * 4294967296 + x) * 2 ^ (32 - r)) by rw [← hB]; rw [Nat.mul_comm (2 ^ r), Nat.mul_assoc]; omega, Nat.add_mul_div_left _ _ hp]; omega
  have h2 : (a * 4294967296 + x) % 2 ^ r = x % 2 ^ r := by
    rw [← hB, show a * (2 ^ (32 - r) * 2 ^ r) + x = x + 2 ^ r * (a * 2 ^ (32 - r)) by rw [Nat.mul_comm (2 ^ r), Nat.mul_assoc]; omega, Nat.add_mul_mod_self_left]
  rw [h1]
  obtain ⟨X, hX⟩ : ∃ X, X = a * 4294967296 + x := ⟨_, rfl⟩
  rw [← hX] at h2 ⊢
  rw [← h2]
  have h3 := Nat.div_add_mod X (2 ^ r)
  have h4 : X * 2 ^ (32 - r) = X / 2 ^ r * 4294967296 + X % 2 ^ r * 2 ^ (32 - r) := by
    have h5 : (2 ^ r * (X / 2 ^ r) + X % 2 ^ r) * 2 ^ (32 - r) = X * 2 ^ (32 - r) := by rw [h3]
    rw [← h5, Nat.add_mul, ← hB]
    congr 1
    rw [Nat.mul_comm (2 ^ r), Nat.mul_assoc, Nat.mul_comm (2 ^ r)]
  rw [h4]; omega
/-- the value of the shifted words: the first one, then the others -/
theorem sw_val {c : Nat → Int32} {r : Nat} (hr : 0 < r) (hr2 : r < 32) : ∀ n, wd (c 0) / 2 ^ r * 4294967296 ^ n + bv (sw c r) n = bv c (n + 1) / 2 ^ r
  | 0 => by show wd (c 0) / 2 ^ r * 1 + 0 = (0 * 4294967296 + wd (c 0)) / 2 ^ r; rw [Nat.zero_mul, Nat.zero_add]; omega
  | n + 1 => by
    have ih := sw_val (c := c) hr hr2 n
    have h1 : wd (sw c r n) = wd (c (n + 1)) / 2 ^ r + wd (c n) % 2 ^ r * 2 ^ (32 - r) := wd_shr_or _ _ hr hr2
    have h2 := shr_step (a := bv c n) (x := wd (c n)) (y := wd (c (n + 1))) (r := r) (by omega)
    have h3 : bv c (n + 1) = bv c n * 4294967296 + wd (c n) := rfl
    show wd (c 0) / 2 ^ r * (4294967296 ^ n * 4294967296) + (bv (sw c r) n * 4294967296 + wd (sw c r n)) = (bv c (n + 1) * 4294967296 + wd (c (n + 1))) / 2 ^ r
    rw [h3, ← h2, ← h3, ← ih, h1, Nat.add_mul, ← Nat.mul_assoc]
    exact (Nat.add_assoc _ _ _).symm
set_option maxHeartbeats 1000000 in
theorem srw_ok {m n i r I : Nat} {f c : Nat → Int32} (hr : 0 < r) (hr2 : r < 32) (hn : n ≤ 12) (hI : I < n) (hi : i ≤ 1) (hm : m = I + i) (hm2 : m ≤ 12) :
    ∃ g, f_J16_shiftRightImplWorker m f n c (nI i) (nI r) (nI I) = some g ∧ (∀ j, j < I → g (j + i) = sw c r j) ∧ (0 < i → g 0 = f 0) := by
  unfold f_J16_shiftRightImplWorker
  simp only [lt_eq, lti_eq]
  have e32 : (32 : Int32) - nI r = nI (32 - r) := nI_sub (a := 32) (by omega)
  rw [e32]
  by_cases c0 : i = 0
  · subst c0
    rw [if_pos (show nI 0 = 0 from rfl)]
    have e1 : nI I - 1 = dn I 0 := by
      unfold dn
      by_cases cI : 0 < I
      · rw [if_pos cI, nI_s1 cI, Nat.sub_zero]
      · rw [if_neg cI, show I = 0 by omega]; rfl
    rw [e1]
    refine lp_bind (fun k p => ∃ t, t + k = I ∧ p.2.1 = nI (I - t) ∧ p.2.2 = dn I t ∧ (∀ j, I - t ≤ j → j < I → p.1 j = sw c r j)) (fun g => (∀ j, j < I → g (j + 0) = sw c r j) ∧ (0 < 0 → g 0 = f 0)) I (by omega) ⟨0, by omega, rfl, rfl, fun j h1 h2 => by omega⟩ ?_ (fun o ho => ⟨o, rfl, ho⟩)
    intro k p hI
    obtain ⟨g, v1, v2⟩ := p
    obtain ⟨t, h1, h2, h3, h4⟩ := hI
    dsimp only at h2 h3 h4 ⊢
    subst h2; subst h3
    by_cases d : k = 0
    · rw [if_pos (by rw [show nI 0 = 0 from rfl, dn_neg (by omega)]; omega)]
      exact ⟨_, rfl, fun j hj => h4 j (by omega) hj, fun h => absurd h (by decide)⟩
    · rw [if_neg (by rw [show nI 0 = 0 from rfl, dn_neg (by omega)]; omega), dn_step (by omega), nI_m1 (by omega), gd_in rfl (by omega) (by omega), gd_in rfl (by omega) (by omega), gd_in (dn_in (by omega)) (by omega) (by omega)]
      refine ⟨_, rfl, k - 1, by omega, t + 1, by omega, by show nI (I - t - 1) = _; congr 1, rfl, ?_⟩
      intro j j1 j2
      show va_up g (I - 1 - t) _ j = _
      by_cases cj : j = I - 1 - t
      · subst cj
        rw [up_eq]
        unfold sw
        rw [show I - 1 - t + 1 = I - t by omega, show I - t - 1 = I - 1 - t by omega]
      · rw [up_ne _ _ cj]
        exact h4 j (by omega) j2
  · have c1 : i = 1 := by omega
    subst c1
    rw [if_neg (by decide)]
    refine lp_bind (fun k p => ∃ t, t + k = I ∧ p.2.1 = nI (I - t) ∧ p.2.2 = nI (I - t) ∧ (∀ j, I - t ≤ j → j < I → p.1 (j + 1) = sw c r j) ∧ p.1 0 = f 0) (fun g => (∀ j, j < I → g (j + 1) = sw c r j) ∧ (0 < 1 → g 0 = f 0)) I (by omega) ⟨0, by omega, rfl, rfl, fun j h1 h2 => by omega, rfl⟩ ?_ (fun o ho => ⟨o, rfl, ho⟩)
    intro k p hI
    obtain ⟨g, v1, v2⟩ := p
    obtain ⟨t, h1, h2, h3, h4, h5⟩ := hI
    dsimp only at h2 h3 h4 h5 ⊢
    subst h2; subst h3
    by_cases d : k = 0
    · rw [if_pos (by rw [nI_ltI (by omega) (by omega)]; omega)]
      exact ⟨_, rfl, fun j hj => h4 j (by omega) hj, fun _ => h5⟩
    · rw [if_neg (by rw [nI_ltI (by omega) (by omega)]; omega), nI_m1 (by omega), gd_in rfl (by omega) (by omega), gd_in rfl (by omega) (by omega), gd_in rfl (by omega) (by omega)]
      refine ⟨_, rfl, k - 1, by omega, t + 1, by omega, by show nI (I - t - 1) = _; congr 1, by show nI (I - t - 1) = _; congr 1, ?_, ?_⟩
      · intro j j1 j2
        show va_up g (I - t) _ (j + 1) = _
        by_cases cj : j + 1 = I - t
        · rw [← cj, up_eq]
          unfold sw
          rw [show j + 1 - 1 = j by omega]
        · rw [up_ne _ _ cj]
          exact h4 j (by omega) j2
      · show va_up g (I - t) _ 0 = _
        rw [up_ne _ _ (by omega)]
        exact h5
theorem inc_ok {n : Nat} {c : Nat → Int32} (hn : n ≤ 11) : ∃ m g h, f_J16_javaIncrement n c = some (m, g, h) ∧ (m = n ∨ m = n + 1 ∧ bv c n + 1 = 4294967296 ^ n) ∧ bv g m = bv c n + 1 := by
  unfold f_J16_javaIncrement
  simp only [lt_eq, lti_eq]
  have e1 : nI n - 1 = dn n 0 := by
    unfold dn
    by_cases cI : 0 < n
    · rw [if_pos cI, nI_s1 cI, Nat.sub_zero]
    · rw [if_neg cI, show n = 0 by omega]; rfl
  rw [e1]
  have key : ∃ r : Nat × (Nat → Int32) × (Nat → Int32), (Option.bind (lp 41 (fun (p : (Nat → Int32) × Int32 × Int32) => (show Option (Sum ((Nat → Int32) × Int32 × Int32) ((Nat → Int32) × Int32)) from (if p.2.2 < 0 then some (.inr (p.1, p.2.1)) else if p.2.1 = 0 then gd n p.2.2 fun i20 => gd n p.2.2 fun i23 => some (.inl (va_up p.1 i23 (p.1 i20 + 1), p.1 i20 + 1, p.2.2 + (-1))) else some (.inr (p.1, p.2.1))))) (c, 0, dn n 0)) fun w16 =>
      (if w16.2 = 0 then gl 12 (nI n + 1) fun n29 => gd n29 0 fun i30 => some (n29, va_up (fun _ => 0) i30 1, w16.1) else some (n, w16.1, w16.1))) = some r ∧ (r.1 = n ∨ r.1 = n + 1 ∧ bv c n + 1 = 4294967296 ^ n) ∧ bv r.2.1 r.1 = bv c n + 1 := by
    refine lp_bind (fun k p => ∃ t, t + k = n ∧ p.2.2 = dn n t ∧ (p.2.1 = 0 → tv p.1 n t = 0 ∧ tv c n t + 1 = 4294967296 ^ t) ∧ (p.2.1 ≠ 0 → bv p.1 n = bv c n + 1) ∧ (p.2.1 = 0 → ∀ j, j < n - t → p.1 j = c j))
      (fun o => (o.2 = 0 → bv o.1 n = 0 ∧ bv c n + 1 = 4294967296 ^ n) ∧ (o.2 ≠ 0 → bv o.1 n = bv c n + 1)) n (by omega) ⟨0, by omega, rfl, fun _ => ⟨rfl, rfl⟩, fun h => absurd rfl h, fun _ _ _ => rfl⟩ ?_ ?_
    · intro k p hI
      obtain ⟨g, u, v⟩ := p
      obtain ⟨t, h1, h2, h3, h4, h5⟩ := hI
      dsimp only at h2 h3 h4 h5 ⊢
      subst h2
      by_cases d : k = 0
      · rw [if_pos (by rw [dn_neg (by omega)]; omega)]
        have : t = n := by omega
        subst this
        exact ⟨_, rfl, fun z => by have := h3 z; rw [tv_all, tv_all] at this; exact this, h4⟩
      · rw [if_neg (by rw [dn_neg (by omega)]; omega)]
        by_cases cu : u = 0
        · rw [if_pos cu, dn_step (by omega), gd_in (dn_in (by omega)) (by omega) (by omega), gd_in (dn_in (by omega)) (by omega) (by omega)]
          obtain ⟨a1, a2⟩ := h3 cu
          have hg := h5 cu (n - 1 - t) (by omega)
          rw [hg]
          have hw := wd_a1 (c (n - 1 - t))
          have hl := wd_lt (c (n - 1 - t))
          have hz : n - 1 - t = n - (t + 1) := by omega
          refine ⟨_, rfl, k - 1, by omega, t + 1, by omega, rfl, ?_, ?_, ?_⟩
          · intro z
            have z' : c (n - 1 - t) + 1 = 0 := z
            have hz0 : wd (c (n - 1 - t) + 1) = 0 := by rw [z', wd_0]
            constructor
            · show tv (va_up g (n - 1 - t) (c (n - 1 - t) + 1)) n (t + 1) = 0
              rw [hz, tv_new (by omega), a1, ← hz, hz0, Nat.zero_mul]
            · rw [tv_succ c (by omega), ← hz, Nat.pow_succ]
              have : wd (c (n - 1 - t)) = 4294967295 := by omega
              rw [this]; omega
          · intro z
            have hp := wd_pos (show c (n - 1 - t) + 1 ≠ 0 from z)
            show bv (va_up g (n - 1 - t) (c (n - 1 - t) + 1)) n = _
            rw [bv_tv _ (show t + 1 ≤ n by omega), bv_tv c (show t + 1 ≤ n by omega), hz, tv_new (by omega), a1, bv_up_ge (Nat.le_refl _), bv_congr (fun i hi => h5 cu i (by omega)), tv_succ c (by omega), ← hz]
            have : wd (c (n - 1 - t) + 1) = wd (c (n - 1 - t)) + 1 := by omega
            rw [this, Nat.add_mul]; omega
          · intro z j hj
            show va_up g (n - 1 - t) _ j = _
            rw [up_ne _ _ (by omega)]
            exact h5 cu j (by omega)
        · rw [if_neg cu]
          exact ⟨_, rfl, fun z => absurd z cu, fun _ => h4 cu⟩
    · intro o ho
      obtain ⟨g, u⟩ := o
      obtain ⟨o1, o2⟩ := ho
      dsimp only at o1 o2 ⊢
      by_cases cu : u = 0
      · rw [if_pos cu, nI_a1, gl_in rfl (by omega) (by decide), gd_0 (by omega) (by omega)]
        refine ⟨_, rfl, Or.inr ⟨rfl, (o1 cu).2⟩, ?_⟩
        show bv (va_up (fun _ => 0) 0 1) (n + 1) = _
        rw [bv_cons, up_eq, bv_zero (fun i _ => up_ne _ _ (by omega)), (o1 cu).2, show wd 1 = 1 from rfl]; omega
      · rw [if_neg cu]
        exact ⟨_, rfl, Or.inl rfl, o2 cu⟩
  obtain ⟨⟨m, g, h⟩, e, r1, r2⟩ := key
  exact ⟨m, g, h, e, r1, r2⟩
/-- what shiftRightImpl does where words are left -/
theorem copyOf_ok {n m : Nat} {c : Nat → Int32} (hn : n ≤ 12) (hm : m < n) : ∃ g, f_J19_copyOf n c (nI m) = some (m, g) ∧ ∀ i, i < m → g i = c i := by
  unfold f_J19_copyOf
  rw [if_neg (by rw [nI_eq (by omega) (by omega)]; omega), gl_in rfl (by omega) (by decide), min_ok (by omega) (by omega), Nat.min_eq_right (by omega), Option.bind_some, gd_0 (by omega) (by omega), gd_0 (by omega) (by omega), gd_in (i := m) rfl (by omega) (by omega), ask_in (by rw [Bool.and_eq_true, Nat.ble_eq, Nat.ble_eq]; omega)]
  refine ⟨_, rfl, fun i hi => ?_⟩
  unfold va_cpy
  rw [if_pos (by omega), Nat.zero_add, Nat.sub_zero]
/-- the quotient by 2^k out of the words -/
theorem quo_ok {n k : Nat} {c : Nat → Int32} (hq : k / 32 ≤ n) : bv c n / 2 ^ k = bv c (n - k / 32) / 2 ^ (k % 32) := by
  rw [pow_qr k, Nat.mul_comm, ← Nat.div_div_eq_div_mul, bv_tv c hq]
  congr 1
  have h := tv_lt c n (k / 32)
  rw [Nat.add_comm, Nat.mul_comm, Nat.add_mul_div_left _ _ (Nat.pow_pos (by decide)), Nat.div_eq_of_lt h, Nat.zero_add]
theorem rem_ok {n k : Nat} {c : Nat → Int32} (hq : k / 32 ≤ n) : (bv c n % 2 ^ k = 0) = (tv c n (k / 32) = 0 ∧ bv c (n - k / 32) % 2 ^ (k % 32) = 0) := by
  rw [pow_qr k, bv_tv c hq, Nat.mul_comm (2 ^ (k % 32))]
  have h := tv_lt c n (k / 32)
  have hp : 0 < 4294967296 ^ (k / 32) := Nat.pow_pos (by decide)
  rw [Nat.mod_mul, Nat.mul_comm (bv c (n - k / 32)), Nat.mul_add_mod, Nat.mod_eq_of_lt h, Nat.mul_add_div hp, Nat.div_eq_of_lt h, Nat.add_zero]
  simp only [eq_iff_iff]
  constructor
  · intro z
    have h1 : tv c n (k / 32) = 0 := by omega
    refine ⟨h1, ?_⟩
    rw [h1, Nat.zero_add] at z
    rcases Nat.mul_eq_zero.mp z with z | z
    · omega
    · exact z
  · rintro ⟨h1, h2⟩
    rw [h1, h2]; simp
/-- the rounding of shiftRightImpl -/
noncomputable def sriT (x0f0 : Int32) (x0r1n : Nat) (x0r1c : Nat → Int32) (v1 v2 : Int32) (n5 : Nat) (f6 : Nat → Int32) : Option (Int32 × Nat × (Nat → Int32)) :=
    lt (fun (n9 : Nat) (f10 : Nat → Int32) =>
    Option.bind (f_J16_init_2 n9 f10 x0f0) fun o13 =>
    some (o13, n9, f10)
    ) fun K11 =>
    (if 0 ≤ x0f0 then
      K11 n5 f6
    else
      lti ((nI x0r1n) - 1) fun v15 =>
      lti ((nI x0r1n) - v1) fun v16 =>
      lt (fun (v17 : Bool) (v18 : Int32) =>
      (show Option (Sum (Bool × Int32) (Bool)) from (
      (if v18 < v16 then
        some (.inr v17)
      else
        (if v17 = true then
          some (.inr v17)
        else
          gd x0r1n v18 fun i32 =>
          lti (x0r1c i32) fun v33 =>
          lt (fun (v34 : Bool) =>
          lti (v18 + (-1)) fun v36 =>
          some (.inl (v34, v36))
          ) fun K35 =>
          (if v33 = 0 then
            K35 false
          else
            K35 true
          )
        )
      )
      ))
      ) fun F27 =>
      Option.bind (lp 41 (fun x => F27 x.1 x.2) (false, v15)) fun w28 =>
      lt (fun (v38 : Bool) =>
      (if v38 = true then
        Option.bind (f_J16_javaIncrement n5 f6) fun o41 =>
        K11 o41.1 o41.2.1
      else
        K11 n5 f6
      )
      ) fun K39 =>
      (if w28 = true then
        K39 w28
      else
        (if v2 = 0 then
          K39 w28
        else
          lti ((nI x0r1n) - v1) fun v45 =>
          lti (v45 - 1) fun v46 =>
          gd x0r1n v46 fun i47 =>
          lti (x0r1c i47) fun v48 =>
          lti (32 - v2) fun v49 =>
          lti (v48 <<< (v49 &&& 31)) fun v50 =>
          lt (fun (v51 : Bool) =>
          K39 v51
          ) fun K52 =>
          (if v50 = 0 then
            K52 false
          else
            K52 true
          )
        )
      )
    )
theorem init2_gen {n : Nat} {c : Nat → Int32} {s : Int32} (h : n ≤ 12) : f_J16_init_2 n c s = some (if n = 0 then 0 else s) := by
  by_cases c0 : n = 0
  · subst c0
    rw [if_pos rfl]; rfl
  · rw [if_neg c0, init2_ok (by omega) h]
theorem nat_floor {M P : Nat} (hP : 0 < P) : (-(M : Int)) / P = -(((M / P + if M % P = 0 then 0 else 1 : Nat)) : Int) := by
  by_cases c : M % P = 0
  · rw [if_pos c, Nat.add_zero]
    have h := Nat.div_add_mod M P
    rw [c, Nat.add_zero] at h
    have : (-(M : Int)) = (P : Int) * (-((M / P : Nat) : Int)) := by
      rw [Int.mul_neg, ← Int.natCast_mul, h]
    rw [this, Int.mul_ediv_cancel_left _ (by omega)]
  · rw [if_neg c]
    have h := Nat.div_add_mod M P
    have h2 := Nat.mod_lt M hP
    have : (-(M : Int)) = ((P - M % P : Nat) : Int) + (P : Int) * (-((M / P + 1 : Nat) : Int)) := by
      rw [Int.mul_neg, ← Int.natCast_mul, Nat.mul_add]
      have : ((P - M % P : Nat) : Int) = (P : Int) - (M % P : Nat) := by omega
      omega
    rw [this, Int.add_mul_ediv_left _ _ (by omega), Int.ediv_eq_zero_of_lt (by omega) (by omega)]; omega
theorem bv_all0 {c : Nat → Int32} : ∀ {n : Nat}, bv c n = 0 → ∀ i, i < n → c i = 0
  | 0, _, i, hi => absurd hi (by omega)
  | n + 1, h, i, hi => by
    have h1 : bv c n * 4294967296 + wd (c n) = 0 := h
    by_cases e : i = n
    · subst e
      exact wd_inj (by rw [wd_0]; omega)
    · exact bv_all0 (n := n) (by omega) i (by omega)
theorem shl_zero {x : Int32} {r : Nat} (hr : 0 < r) (hr2 : r < 32) : (x <<< (nI (32 - r) &&& 31) = 0) = (wd x % 2 ^ r = 0) := by
  rw [wd_zero_iff, wd_shl x (by omega), shl_mod (by omega), show 32 - (32 - r) = r by omega]
  have hp : 0 < 2 ^ (32 - r) := Nat.pow_pos (by decide)
  simp only [eq_iff_iff]
  constructor
  · intro z
    rcases Nat.mul_eq_zero.mp z with z | z
    · exact z
    · omega
  · intro z; rw [z, Nat.zero_mul]
theorem low_mod {c : Nat → Int32} {n r : Nat} (hn : 0 < n) (hr : r ≤ 32) : bv c n % 2 ^ r = wd (c (n - 1)) % 2 ^ r := by
  obtain ⟨m, rfl⟩ : ∃ m, n = m + 1 := ⟨n - 1, by omega⟩
  rw [show m + 1 - 1 = m by omega]
  show (bv c m * 4294967296 + wd (c m)) % 2 ^ r = _
  rw [← pow_32 hr, show bv c m * (2 ^ (32 - r) * 2 ^ r) + wd (c m) = wd (c m) + 2 ^ r * (bv c m * 2 ^ (32 - r)) by rw [Nat.mul_comm (2 ^ r), Nat.mul_assoc]; omega, Nat.add_mul_mod_self_left]
set_option maxHeartbeats 1000000 in
theorem sriT_ok {n k n5 : Nat} {c f6 : Nat → Int32} {s : Int32} {v : Int} (hn : n ≤ 11) (hk : 0 < k) (hq : k / 32 < n) (hs : s = 1 ∨ s = -1) (hv : v = (if s = 1 then 1 else -1) * (bv c n : Int)) (h5 : n5 ≤ 11) (h6 : bv f6 n5 = bv c n / 2 ^ k) (h0 : 0 < n5 → f6 0 ≠ 0) :
    ∃ r, sriT s n c (nI (k / 32)) (nI (k % 32)) n5 f6 = some r ∧ Bg 12 (v / 2 ^ k) r.1 r.2.1 r.2.2 := by
  unfold sriT
  simp only [lt_eq, lti_eq]
  have hP : 0 < 2 ^ k := Nat.pow_pos (by decide)
  rcases hs with rfl | rfl
  · rw [if_pos (by decide), init2_gen (by omega), Option.bind_some]
    rw [if_pos rfl, Int.one_mul] at hv
    have hz : v / 2 ^ k = ((bv f6 n5 : Nat) : Int) := by rw [hv, h6]; rfl
    refine ⟨_, rfl, by show n5 ≤ 12; omega, ?_, h0, ?_⟩
    · show bv f6 n5 = _
      rw [hz]; rfl
    · show (if n5 = 0 then (0 : Int32) else 1) = _
      rw [hz]
      by_cases c5 : n5 = 0
      · subst c5
        rfl
      · rw [if_neg c5]
        have := bv_low (n := n5 - 1) (h0 (by omega))
        have hp : 0 < 4294967296 ^ (n5 - 1) := Nat.pow_pos (by decide)
        rw [show n5 - 1 + 1 = n5 by omega] at this
        rw [if_neg (by omega), if_pos (by omega)]
  · rw [if_neg (by decide)]
    rw [if_neg (by decide)] at hv
    have hv' : v = -((bv c n : Nat) : Int) := by omega
    have hz := nat_floor (M := bv c n) hP
    rw [show ((2 ^ k : Nat) : Int) = (2 : Int) ^ k by rw [Int.natCast_pow]; rfl] at hz
    rw [hv', hz, ← h6]
    have hrem := rem_ok (n := n) (k := k) (c := c) (by omega)
    have hpos : 0 < bv c n → True := fun _ => trivial
    -- what comes at the end
    have fin1 : bv c n % 2 ^ k = 0 → ∃ r : Int32 × Nat × (Nat → Int32), ((f_J16_init_2 n5 f6 (-1)).bind fun o13 => some (o13, n5, f6)) = some r ∧ Bg 12 (-((bv f6 n5 + if bv c n % 2 ^ k = 0 then 0 else 1 : Nat) : Int)) r.1 r.2.1 r.2.2 := by
      intro e
      rw [init2_gen (by omega), Option.bind_some, if_pos e, Nat.add_zero]
      refine ⟨_, rfl, by show n5 ≤ 12; omega, by show bv f6 n5 = _; omega, h0, ?_⟩
      show (if n5 = 0 then (0 : Int32) else -1) = _
      by_cases c5 : n5 = 0
      · subst c5
        rfl
      · rw [if_neg c5]
        have := bv_low (n := n5 - 1) (h0 (by omega))
        have hp : 0 < 4294967296 ^ (n5 - 1) := Nat.pow_pos (by decide)
        rw [show n5 - 1 + 1 = n5 by omega] at this
        rw [if_neg (by omega), if_neg (by omega)]
    have fin2 : bv c n % 2 ^ k ≠ 0 → ∃ r : Int32 × Nat × (Nat → Int32), ((f_J16_javaIncrement n5 f6).bind fun o41 => (f_J16_init_2 o41.1 o41.2.1 (-1)).bind fun o13 => some (o13, o41.1, o41.2.1)) = some r ∧ Bg 12 (-((bv f6 n5 + if bv c n % 2 ^ k = 0 then 0 else 1 : Nat) : Int)) r.1 r.2.1 r.2.2 := by
      intro e
      obtain ⟨m, g, g', e1, e2, e3⟩ := inc_ok (c := f6) h5
      rw [e1, Option.bind_some, init2_gen (by show m ≤ 12; omega), Option.bind_some, if_neg e]
      have hm : m ≠ 0 := by
        intro z
        subst z
        have : (0 : Nat) = bv f6 n5 + 1 := e3
        omega
      refine ⟨_, rfl, by show m ≤ 12; omega, by show bv g m = _; omega, ?_, ?_⟩
      · intro _
        show g 0 ≠ 0
        rcases e2 with e2 | ⟨e2, e4⟩
        · subst e2
          apply top_ne (n := m - 1)
          rw [show m - 1 + 1 = m by omega, e3]
          have := bv_low (n := m - 1) (h0 (by omega))
          rw [show m - 1 + 1 = m by omega] at this
          omega
        · subst e2
          apply top_ne (n := n5)
          rw [e3, e4]; exact Nat.le_refl _
      · show (if m = 0 then (0 : Int32) else -1) = _
        rw [if_neg hm, if_neg (by omega), if_neg (by omega)]
    obtain ⟨q, hqq⟩ : ∃ q, q = k / 32 := ⟨_, rfl⟩
    obtain ⟨r, hrr⟩ : ∃ r, r = k % 32 := ⟨_, rfl⟩
    rw [← hqq] at hq hrem ⊢
    rw [← hrr] at hrem ⊢
    have hr32 : r < 32 := by omega
    rw [nI_s1 (by omega), nI_sub (by omega)]
    refine lp_bind (fun κ p => ∃ t, t + κ = q ∧ p.2 = nI (n - 1 - t) ∧ (p.1 = false → tv c n t = 0) ∧ (p.1 = true → ∃ j, n - q ≤ j ∧ j < n ∧ c j ≠ 0)) (fun o => (o = false → tv c n q = 0) ∧ (o = true → tv c n q ≠ 0)) q (by omega) ⟨0, by omega, rfl, fun _ => rfl, fun z => by cases z⟩ ?_ ?_
    · intro κ p hI
      obtain ⟨b, w⟩ := p
      obtain ⟨t, e1, e2, e3, e4⟩ := hI
      dsimp only at e2 e3 e4 ⊢
      subst e2
      have hb : b = true → tv c n q ≠ 0 := by
        intro z z2
        obtain ⟨j, j1, j2, j3⟩ := e4 z
        have := bv_all0 z2 (j - (n - q)) (by omega)
        rw [show n - q + (j - (n - q)) = j by omega] at this
        exact j3 this
      rw [ite_ltI (by omega) (by omega)]
      by_cases d : n - 1 - t < n - q
      · have : t = q := by omega
        subst this
        rw [if_pos d]
        exact ⟨_, rfl, e3, hb⟩
      · rw [if_neg d]
        cases b with
        | true =>
          rw [if_pos rfl]
          exact ⟨_, rfl, ⟨fun z => absurd z (by decide), hb⟩⟩
        | false =>
          rw [if_neg (by decide), gd_in rfl (by omega) (by omega), nI_m1 (by omega)]
          have hz := e3 rfl
          by_cases cz : c (n - 1 - t) = 0
          · rw [if_pos cz]
            refine ⟨_, rfl, κ - 1, by omega, t + 1, by omega, by show nI (n - 1 - t - 1) = _; congr 1, fun _ => ?_, fun z => by cases z⟩
            rw [tv_succ c (by omega), hz, show n - (t + 1) = n - 1 - t by omega, cz, wd_0, Nat.zero_mul]
          · rw [if_neg cz]
            exact ⟨_, rfl, κ - 1, by omega, t + 1, by omega, by show nI (n - 1 - t - 1) = _; congr 1, ⟨fun z => absurd (show true = false from z) (by decide), fun _ => ⟨n - 1 - t, by omega, by omega, cz⟩⟩⟩
    · intro o ho
      obtain ⟨o1, o2⟩ := ho
      cases o with
      | true =>
        rw [if_pos rfl, if_pos rfl]
        exact fin2 (by rw [ne_eq, hrem]; exact fun z => o2 rfl z.1)
      | false =>
        rw [if_neg (by decide)]
        have hz := o1 rfl
        by_cases c0 : r = 0
        · rw [if_pos (by rw [c0]; rfl), if_neg (by decide)]
          refine fin1 ?_
          rw [hrem]
          exact ⟨hz, by rw [c0, Nat.pow_zero, Nat.mod_one]⟩
        · rw [if_neg (by rw [show (0 : Int32) = nI 0 from rfl, nI_eq (by omega) (by decide)]; exact c0), nI_s1 (by omega), gd_in rfl (by omega) (by omega), show (32 : Int32) - nI r = nI (32 - r) from nI_sub (a := 32) (by omega)]
          have hsz := shl_zero (x := c (n - q - 1)) (show 0 < r by omega) hr32
          have hlm := low_mod (c := c) (n := n - q) (r := r) (by omega) (by omega)
          by_cases cz : c (n - q - 1) <<< (nI (32 - r) &&& 31) = 0
          · rw [if_pos cz, if_neg (by decide)]
            refine fin1 ?_
            rw [hrem, hlm]
            exact ⟨hz, hsz ▸ cz⟩
          · rw [if_neg cz, if_pos trivial]
            refine fin2 ?_
            rw [ne_eq, hrem, hlm]
            exact fun z => cz (hsz ▸ z.2)
theorem sriA_ok {n k : Nat} {c : Nat → Int32} {s : Int32} {v : Int} (hn : n ≤ 11) (hk : 0 < k) (hk2 : k < 2147483648) (hq : k / 32 < n) (hs : s = 1 ∨ s = -1) (hc : c 0 ≠ 0) (hv : v = (if s = 1 then 1 else -1) * (bv c n : Int)) :
    ∃ r, f_J16_sri_A s n c (nI k) = some r ∧ Bg 12 (v / 2 ^ k) r.1 r.2.1 r.2.2 := by
  have key : ∃ r, (if nI (k / 32) < nI n then
      (if nI (k % 32) = 0 then (f_J19_copyOf n c (nI n - nI (k / 32))).bind fun o82 => sriT s n c (nI (k / 32)) (nI (k % 32)) o82.1 o82.2
       else gd n 0 fun i55 =>
        if ((c i55).toUInt32 >>> ((nI (k % 32)).toUInt32 &&& Int32.toUInt32 31)).toInt32 = 0 then
          gl 12 (nI n - nI (k / 32) - 1) fun n74 => (f_J17_checkFromToIndex 0 (nI n - nI (k / 32) - 1 + 1) (nI n)).bind fun o66 => (f_J17_checkFromToIndex 0 (nI n - nI (k / 32) - 1 + 0) (nI n74)).bind fun o68 =>
            (f_J16_shiftRightImplWorker n74 (fun _ => 0) n c 0 (nI (k % 32)) (nI n - nI (k / 32) - 1)).bind fun o69 => sriT s n c (nI (k / 32)) (nI (k % 32)) n74 o69
        else
          gl 12 (nI n - nI (k / 32)) fun n77 => gd n77 0 fun i79 => (f_J17_checkFromToIndex 0 (nI n - nI (k / 32) - 1 + 1) (nI n)).bind fun o66 => (f_J17_checkFromToIndex (0 + 1) (nI n - nI (k / 32) - 1 + (0 + 1)) (nI n77)).bind fun o68 =>
            (f_J16_shiftRightImplWorker n77 (va_up (fun _ => 0) i79 ((c i55).toUInt32 >>> ((nI (k % 32)).toUInt32 &&& Int32.toUInt32 31)).toInt32) n c (0 + 1) (nI (k % 32)) (nI n - nI (k / 32) - 1)).bind fun o69 => sriT s n c (nI (k / 32)) (nI (k % 32)) n77 o69)
      else none) = some r ∧ Bg 12 (v / 2 ^ k) r.1 r.2.1 r.2.2 := by
    rw [ite_ltI (by omega) (by omega), if_pos hq]
    have hquo := quo_ok (n := n) (k := k) (c := c) (by omega)
    have hT := fun (n5 : Nat) (f6 : Nat → Int32) => sriT_ok (n := n) (k := k) (n5 := n5) (c := c) (f6 := f6) (s := s) (v := v) hn hk hq hs hv
    obtain ⟨q, hqq⟩ : ∃ q, q = k / 32 := ⟨_, rfl⟩
    obtain ⟨r, hrr⟩ : ∃ r, r = k % 32 := ⟨_, rfl⟩
    rw [← hqq] at hq hquo hT ⊢
    rw [← hrr] at hquo hT ⊢
    have hr32 : r < 32 := by omega
    by_cases c0 : r = 0
    · rw [if_pos (by rw [c0]; rfl), nI_sub (by omega)]
      obtain ⟨g, e, hg⟩ := copyOf_ok (n := n) (m := n - q) (c := c) (by omega) (by omega)
      rw [e, Option.bind_some]
      refine hT _ _ (by show n - q ≤ 11; omega) ?_ (fun h => ?_)
      · show bv g (n - q) = _
        rw [hquo, c0, Nat.pow_zero, Nat.div_one]
        exact bv_congr hg
      · show g 0 ≠ 0
        rw [hg 0 h]; exact hc
    · rw [if_neg (by rw [show (0 : Int32) = nI 0 from rfl, nI_eq (by omega) (by decide)]; exact c0), gd_0 (by omega) (by omega), nI_sub (by omega), nI_s1 (by omega), nI_a1, show n - q - 1 + 1 = n - q by omega]
      have hcf0 : f_J17_checkFromToIndex 0 (nI (n - q)) (nI n) = some (nI 0) := cfi_ok (a := 0) (by omega) (by omega) (by omega)
      rw [hcf0]
      simp only [Option.bind_some]
      have hhi := wd_shr (c 0) (k := r) (by omega)
      have hsv := sw_val (c := c) (r := r) (by omega) hr32 (n - q - 1)
      rw [show n - q - 1 + 1 = n - q by omega] at hsv
      by_cases ch : ((c 0).toUInt32 >>> ((nI r).toUInt32 &&& Int32.toUInt32 31)).toInt32 = 0
      · rw [if_pos ch, gl_in rfl (by omega) (by decide)]
        rw [ch, wd_0] at hhi
        have hcf : f_J17_checkFromToIndex 0 (nI (n - q - 1) + 0) (nI (n - q - 1)) = some (nI 0) := by
          rw [show nI (n - q - 1) + 0 = nI (n - q - 1) from nI_add _ 0]; exact cfi_ok (a := 0) (by omega) (by omega) (by omega)
        obtain ⟨g, e, g1, g2⟩ := srw_ok (m := n - q - 1) (n := n) (i := 0) (r := r) (I := n - q - 1) (f := fun _ => 0) (c := c) (by omega) hr32 (by omega) (by omega) (by omega) (by omega) (by omega)
        rw [show nI 0 = (0 : Int32) from rfl] at e
        rw [hcf, Option.bind_some, e, Option.bind_some]
        have hval : bv g (n - q - 1) = bv c n / 2 ^ k := by
          rw [hquo, ← hsv, ← hhi, Nat.zero_mul, Nat.zero_add]
          exact bv_congr fun j hj => g1 j hj
        refine hT _ _ (by omega) hval (fun h => ?_)
        apply top_ne (n := n - q - 2)
        rw [show n - q - 2 + 1 = n - q - 1 by omega, hval, hquo]
        have hlow := bv_low (n := n - q - 1) hc
        rw [show n - q - 1 + 1 = n - q by omega] at hlow
        rw [Nat.le_div_iff_mul_le (Nat.pow_pos (by decide))]
        have h1 : 4294967296 ^ (n - q - 1) = 4294967296 ^ (n - q - 2) * 4294967296 := by rw [← Nat.pow_succ]; congr 1; omega
        have h2 : 2 ^ r ≤ 4294967296 := by
          rw [show (4294967296 : Nat) = 2 ^ 32 by decide]; exact Nat.pow_le_pow_right (by decide) (by omega)
        have h3 := Nat.mul_le_mul_left (4294967296 ^ (n - q - 2)) h2
        omega
      · rw [if_neg ch, gl_in rfl (by omega) (by decide), gd_0 (by omega) (by omega)]
        have hcf : f_J17_checkFromToIndex (0 + 1) (nI (n - q - 1) + (0 + 1)) (nI (n - q)) = some (nI 1) := by
          rw [show (0 + 1 : Int32) = nI 1 from rfl, nI_add, show n - q - 1 + 1 = n - q by omega]; exact cfi_ok (by omega) (by omega) (by omega)
        obtain ⟨g, e, g1, g2⟩ := srw_ok (m := n - q) (n := n) (i := 1) (r := r) (I := n - q - 1) (f := va_up (fun _ => 0) 0 ((c 0).toUInt32 >>> ((nI r).toUInt32 &&& Int32.toUInt32 31)).toInt32) (c := c) (by omega) hr32 (by omega) (by omega) (by omega) (by omega) (by omega)
        rw [show nI 1 = (0 + 1 : Int32) from rfl] at e
        rw [hcf, Option.bind_some, e, Option.bind_some]
        have hg0 := g2 (by decide)
        rw [up_eq] at hg0
        have hval : bv g (n - q) = bv c n / 2 ^ k := by
          rw [hquo, ← hsv, ← hhi, show n - q = n - q - 1 + 1 by omega, bv_cons, hg0, show n - q - 1 + 1 - 1 = n - q - 1 by omega]
          congr 1
          exact bv_congr fun j hj => g1 j hj
        exact hT _ _ (by omega) hval (fun h => by rw [hg0]; exact ch)
  obtain ⟨r, e, hr⟩ := key
  refine ⟨r, ?_, hr⟩
  rw [← e]
  unfold f_J16_sri_A sriT
  simp only [lt_eq, lti_eq]
  rw [nI_shr5 (by omega), nI_mod32 (by omega)]
/-- a whole number's low word, as an int -/
def iw (v : Int) : Int32 := nI (v % 4294967296).toNat
theorem wd_iw (v : Int) : (wd (iw v) : Int) = v % 4294967296 := by
  unfold iw
  rw [wd_nI (by omega)]; omega
theorem iw_of {x : Int32} {v : Int} (h : (wd x : Int) = v % 4294967296) : x = iw v := wd_inj (by have := wd_iw v; omega)
theorem wd_neg (x : Int32) : (wd (-x) : Int) = (-(wd x : Int)) % 4294967296 := by
  unfold wd
  rw [Int32.toUInt32_neg]
  have h := x.toUInt32.toNat_lt
  have e : (-x.toUInt32).toNat = (4294967296 - x.toUInt32.toNat) % 4294967296 := by
    rw [UInt32.toNat_neg]
  rw [e]; omega
theorem fnA_ok {n : Nat} {c : Nat → Int32} {s : Int32} (hn : n ≤ 12) : ∃ r : Int32 × Int32, f_J16_fn_A s n c = some r ∧ ∃ t, t ≤ n ∧ r.1 = nI t := by
  unfold f_J16_fn_A
  simp only [lt_eq, lti_eq]
  rw [if_pos (show (0 : Int32) - 2 = -2 by decide)]
  have e1 : nI n - 1 = dn n 0 := by
    unfold dn
    by_cases cI : 0 < n
    · rw [if_pos cI, nI_s1 cI, Nat.sub_zero]
    · rw [if_neg cI, show n = 0 by omega]; rfl
  rw [e1]
  refine lp_bind (fun k v => ∃ t, t + k = n ∧ v = dn n t) (fun o => ∃ t, t ≤ n ∧ o = dn n t) n (by omega) ⟨0, by omega, rfl⟩ ?_ ?_
  · intro k v hI
    obtain ⟨t, h1, rfl⟩ := hI
    by_cases d : k = 0
    · rw [if_pos (by rw [dn_neg (by omega)]; omega)]
      exact ⟨_, rfl, t, by omega, rfl⟩
    · rw [if_neg (by rw [dn_neg (by omega)]; omega), gd_in (dn_in (by omega)) (by omega) (by omega)]
      by_cases cz : c (n - 1 - t) = 0
      · rw [if_pos cz]
        exact ⟨_, rfl, k - 1, by omega, t + 1, by omega, dn_step (by omega)⟩
      · rw [if_neg cz]
        exact ⟨_, rfl, t, by omega, rfl⟩
  · rintro o ⟨t, ht, rfl⟩
    refine ⟨_, rfl, t, ht, ?_⟩
    show nI n - dn n t - 1 = nI t
    by_cases c0 : t < n
    · rw [dn_in c0, nI_sub (by omega), nI_s1 (by omega)]; congr 1; omega
    · unfold dn
      rw [if_neg c0, show t = n by omega]
      have : nI n - -1 = nI (n + 1) := by rw [Int32.sub_eq_add_neg, show -(-1 : Int32) = nI 1 by decide, nI_add]
      rw [this, nI_s1 (by omega)]; congr 1
theorem ivA_ok {N n : Nat} {c : Nat → Int32} {s : Int32} {v : Int} (h : Bg N v s n c) (hN : N ≤ 12) : ∃ z, f_J16_iv_A s n c = some (iw v, z) := by
  obtain ⟨p1, p2, p3, p4⟩ := id h
  have hval := h.val
  unfold f_J16_iv_A f_J16_gi_A
  simp only [lti_eq]
  rw [if_pos (show (0 : Int32) ≤ 0 by decide)]
  have hlow : ∀ m, n = m + 1 → (bv c n : Int) % 4294967296 = (wd (c m) : Int) := by
    intro m e
    subst e
    have : bv c (m + 1) = bv c m * 4294967296 + wd (c m) := rfl
    have := wd_lt (c m)
    omega
  by_cases c0 : n = 0
  · subst c0
    rw [if_neg (by decide)]
    have hv : v = 0 := by
      have : bv c 0 = 0 := rfl
      omega
    subst hv
    unfold f_J16_signInt
    rw [p4, if_pos rfl, if_pos (by decide), Option.bind_some, Option.bind_some]
    exact ⟨0, rfl⟩
  · have h0 : (0 : Int32) < nI n := by rw [show (0 : Int32) = nI 0 from rfl, nI_ltI (by decide) (by omega)]; omega
    have e3 : nI n - 0 = nI n := nI_sub (a := n) (b := 0) (by omega)
    rw [if_pos h0, e3, nI_s1 (by omega), gd_in rfl (by omega) (by omega)]
    have hl := hlow (n - 1) (by omega)
    obtain ⟨hn0, hc0, hs, hs0⟩ := h.ne (by
      intro e
      subst e
      exact c0 h.zero.2)
    by_cases cv : 0 < v
    · rw [if_pos cv] at hs
      subst hs
      rw [if_neg (by decide), Option.bind_some]
      rw [if_pos rfl] at hval
      refine ⟨0, ?_⟩
      rw [iw_of (x := c (n - 1)) (v := v) (by omega)]
    · rw [if_neg cv] at hs
      subst hs
      rw [if_neg (by decide)] at hval
      obtain ⟨r, e, t, ht, hr⟩ := fnA_ok (n := n) (c := c) (s := -1) (by omega)
      rw [if_pos (by decide), e, Option.bind_some, if_neg (by rw [hr, nI_lt0 (by omega)]; exact id), Option.bind_some]
      refine ⟨r.2, ?_⟩
      have hw := wd_neg (c (n - 1))
      rw [iw_of (x := -c (n - 1)) (v := v) (by omega)]
theorem ivB_ok : f_J16_iv_B (fun _ => 1) = some (-1) := by
  unfold f_J16_iv_B f_J16_gi_B f_J16_fn_B
  simp only [lti_eq]
  rw [if_pos (show (0 : Int32) ≤ 0 by decide), if_pos (show (0 : Int32) < 1 by decide), show (1 : Int32) - 0 - 1 = 0 by decide, gd_0 (by decide) (by decide), if_neg (show ¬ (2 : Int32) - 2 = -2 by decide)]
  rfl
theorem ivC_ok (c : Nat → Int32) : f_J16_iv_C 0 0 c = some 0 := by
  unfold f_J16_iv_C f_J16_gi_C f_J16_signInt
  simp only [lti_eq]
  rw [if_pos (show (0 : Int32) ≤ 0 by decide), if_neg (show ¬ (0 : Int32) < nI 0 by decide), if_pos (show (0 : Int32) ≤ 0 by decide)]
  rfl
theorem alt_none {α β : Type} {f : α → Option β} {g : Option β} {o : Option α} (h : o = none) : alt o f g = g := by subst h; rfl
theorem alt_some {α β : Type} {f : α → Option β} {g : Option β} {o : Option α} {w : α} {r : β} (h : o = some w) (h2 : f w = some r) : alt o f g = some r := by
  subst h
  unfold alt
  dsimp only
  rw [h2]
/-- v.shiftRight(k).intValue(), in the ways in which the walk knows it -/
theorem rv_ok {β : Type} {N n k : Nat} {c : Nat → Int32} {s : Int32} {v : Int} {K : Int32 → Option β} {r : β} (h : Bg N v s n c) (hN : N ≤ 11) (hk : 0 < k) (hk2 : k < 2147483648) (hK : K (iw (v / 2 ^ k)) = some r) :
    alt (f_J16_sr_A s n c (nI k)) (fun o => (f_J16_iv_A o.1 o.2.1 o.2.2).bind fun p => K p.1) (alt (f_J16_sr_B s n c (nI k)) (fun o => (f_J16_iv_B o).bind fun p => K p)
      ((f_J16_sr_C s n c (nI k)).bind fun o => (f_J16_iv_C o.1 o.2.1 o.2.2).bind fun p => K p)) = some r := by
  obtain ⟨p1, p2, p3, p4⟩ := id h
  have hval := h.val
  have k0 : ¬ nI k ≤ 0 := by rw [nI_0le (by omega)]; omega
  by_cases hv : v = 0
  · subst hv
    obtain ⟨z1, z2⟩ := h.zero
    subst z1; subst z2
    rw [alt_none (by unfold f_J16_sr_A; rw [if_pos rfl]), alt_none (by unfold f_J16_sr_B; rw [if_pos rfl])]
    unfold f_J16_sr_C
    rw [if_pos rfl, Option.bind_some]
    show (f_J16_iv_C 0 0 _).bind _ = _
    rw [ivC_ok, Option.bind_some]
    rw [Int.zero_ediv] at hK
    exact hK
  · obtain ⟨a1, a2, a3, a4⟩ := h.ne hv
    by_cases cq : k / 32 < n
    · obtain ⟨o, e, ho⟩ := sriA_ok (k := k) (s := s) (v := v) (show n ≤ 11 by omega) hk hk2 cq (sgn_two hv a3) a2 hval
      have eA : f_J16_sr_A s n c (nI k) = some (o.1, o.2.1, o.2.2) := by
        unfold f_J16_sr_A
        rw [if_neg a4, if_neg k0, e, Option.bind_some]
      obtain ⟨z, ez⟩ := ivA_ok ho (by decide)
      refine alt_some eA ?_
      dsimp only
      rw [ez, Option.bind_some]
      exact hK
    · have hsm : bv c n < 2 ^ k := by
        have h1 := bv_lt c n
        have h2 : 4294967296 ^ n ≤ 4294967296 ^ (k / 32) := Nat.pow_le_pow_right (by decide) (by omega)
        have h3 := pow_qr k
        have h4 : 1 ≤ 2 ^ (k % 32) := Nat.pow_pos (by decide)
        have h5 := Nat.mul_le_mul_right (4294967296 ^ (k / 32)) h4
        omega
      have hsm' : (bv c n : Int) < 2 ^ k := by
        have : ((2 ^ k : Nat) : Int) = (2 : Int) ^ k := by rw [Int.natCast_pow]; rfl
        omega
      have hA : f_J16_sr_A s n c (nI k) = none := by
        unfold f_J16_sr_A f_J16_sri_A
        simp only [lt_eq, lti_eq]
        rw [if_neg a4, if_neg k0, nI_shr5 (by omega), ite_ltI (by omega) (by omega), if_neg cq]; rfl
      rw [alt_none hA]
      by_cases cs : 0 < v
      · rw [if_pos cs] at a3
        subst a3
        have hB : f_J16_sr_B 1 n c (nI k) = none := by
          unfold f_J16_sr_B f_J16_sri_B
          simp only [lt_eq, lti_eq]
          rw [if_neg a4, if_neg k0, nI_shr5 (by omega), ite_ltI (by omega) (by omega), if_neg cq, if_neg (by decide)]; rfl
        rw [alt_none hB]
        have hC : f_J16_sr_C 1 n c (nI k) = some (0, 0, fun _ => 0) := by
          unfold f_J16_sr_C f_J16_sri_C
          simp only [lt_eq, lti_eq]
          rw [if_neg a4, if_neg k0, nI_shr5 (by omega), ite_ltI (by omega) (by omega), if_neg cq, if_neg (by decide)]; rfl
        rw [hC, Option.bind_some]
        show (f_J16_iv_C 0 0 _).bind _ = _
        rw [ivC_ok, Option.bind_some]
        rw [if_pos rfl] at hval
        have hz : v / 2 ^ k = 0 := Int.ediv_eq_zero_of_lt (by omega) (by omega)
        rw [hz] at hK
        exact hK
      · rw [if_neg cs] at a3
        subst a3
        have hB : f_J16_sr_B (-1) n c (nI k) = some (fun _ => 1) := by
          unfold f_J16_sr_B f_J16_sri_B
          simp only [lt_eq, lti_eq]
          rw [if_neg a4, if_neg k0, nI_shr5 (by omega), ite_ltI (by omega) (by omega), if_neg cq, if_pos (by decide)]; rfl
        refine alt_some hB ?_
        rw [ivB_ok, Option.bind_some]
        rw [if_neg (by decide)] at hval
        have hz : v / 2 ^ k = -1 := by
          have e : v = (v + 2 ^ k) + 2 ^ k * (-1) := by omega
          have hp : (0 : Int) < 2 ^ k := Int.pow_pos (by decide)
          rw [e, Int.add_mul_ediv_left _ _ (by omega), Int.ediv_eq_zero_of_lt (by omega) (by omega)]; rfl
        rw [hz] at hK
        exact hK
