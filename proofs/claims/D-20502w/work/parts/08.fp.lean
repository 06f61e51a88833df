/-! doubles that the kernel reckons fast: the machine's operations, by a short road for plain numbers (exponent fields 768 to 1279) -/
/-- n is reckoned before it is handed on -/
noncomputable def frc {α : Type} (n : Nat) (k : Nat → α) : α := @Nat.rec (fun _ => α) (k (nat_lit 0)) (fun m _ => k (Nat.succ m)) n
theorem frc_eq {α : Type} (n : Nat) (k : Nat → α) : frc n k = k n := by cases n <;> rfl
noncomputable def fOk (e : Nat) : Bool := Nat.beq (Nat.div (Nat.add e (nat_lit 256)) (nat_lit 512)) (nat_lit 2)
noncomputable def fMa (n : Nat) : Nat := Nat.add (Nat.mod n (nat_lit 4503599627370496)) (nat_lit 4503599627370496)
noncomputable def fRd (v p h : Nat) : Nat := Nat.div (Nat.add (Nat.add v h) (Nat.mod (Nat.div v p) (nat_lit 2))) p
noncomputable def fAsm (s x q : Nat) : Nat := Nat.add (Nat.mul s (nat_lit 9223372036854775808)) (Nat.add (Nat.mul x (nat_lit 4503599627370496)) q)
noncomputable def fMul3 (e s v : Nat) : Nat := (@Bool.rec (fun _ => Nat) (fAsm s (Nat.sub e (nat_lit 1023)) (fRd v (nat_lit 9007199254740992) (nat_lit 4503599627370495))) (fAsm s (Nat.sub e (nat_lit 1024)) (fRd v (nat_lit 4503599627370496) (nat_lit 2251799813685247))) (Nat.blt v (nat_lit 40564819207303340847894502572032)))
noncomputable def fMulZ (sa sb a b : Nat) : Nat := (@Bool.rec (fun _ => Nat) (@Bool.rec (fun _ => Nat) (nat_lit 18446744073709551616) (@Bool.rec (fun _ => Nat) (nat_lit 18446744073709551616) (Nat.mul (Nat.div (Nat.xor sa sb) (nat_lit 2048)) (nat_lit 9223372036854775808)) (fOk (Nat.mod sa (nat_lit 2048)))) (Nat.beq (Nat.mod b (nat_lit 9223372036854775808)) (nat_lit 0))) (@Bool.rec (fun _ => Nat) (nat_lit 18446744073709551616) (Nat.mul (Nat.div (Nat.xor sa sb) (nat_lit 2048)) (nat_lit 9223372036854775808)) (fOk (Nat.mod sb (nat_lit 2048)))) (Nat.beq (Nat.mod a (nat_lit 9223372036854775808)) (nat_lit 0)))
noncomputable def fMul1 (sa sb a b : Nat) : Nat := (@Bool.rec (fun _ => Nat) (fMulZ sa sb a b) (@Bool.rec (fun _ => Nat) (fMulZ sa sb a b) (fMul3 (Nat.add (Nat.mod sa (nat_lit 2048)) (Nat.mod sb (nat_lit 2048))) (Nat.div (Nat.xor sa sb) (nat_lit 2048)) (Nat.mul (fMa a) (fMa b))) (fOk (Nat.mod sb (nat_lit 2048)))) (fOk (Nat.mod sa (nat_lit 2048))))
noncomputable def fMulN (a b : Nat) : Nat := fMul1 (Nat.div a (nat_lit 4503599627370496)) (Nat.div b (nat_lit 4503599627370496)) a b
noncomputable def lgS (k p : Nat) (next : Nat → Nat → Nat) (v a : Nat) : Nat := (@Bool.rec (fun _ => Nat) (next (Nat.div v p) (Nat.add a k)) (next v a) (Nat.blt v p))
noncomputable def lg1 (v a : Nat) : Nat := lgS (nat_lit 1) (nat_lit 2) (fun _ a => a) v a
noncomputable def lg2 (v a : Nat) : Nat := lgS (nat_lit 2) (nat_lit 4) lg1 v a
noncomputable def lg4 (v a : Nat) : Nat := lgS (nat_lit 4) (nat_lit 16) lg2 v a
noncomputable def lg8 (v a : Nat) : Nat := lgS (nat_lit 8) (nat_lit 256) lg4 v a
noncomputable def lg16 (v a : Nat) : Nat := lgS (nat_lit 16) (nat_lit 65536) lg8 v a
noncomputable def lg32 (v a : Nat) : Nat := lgS (nat_lit 32) (nat_lit 4294967296) lg16 v a
/-- the place of the leading digit, for 0 < v < 2^64 -/
noncomputable def lgF (v : Nat) : Nat := lg32 v (nat_lit 0)
/-- v with its leading digit at 52 + k, in units of 2^(e - 1075) -/
noncomputable def fRn3 (s v e k : Nat) : Nat := (@Bool.rec (fun _ => Nat) (fAsm s (Nat.sub (Nat.add e k) (nat_lit 1)) (fRd v (Nat.pow (nat_lit 2) k) (Nat.sub (Nat.pow (nat_lit 2) (Nat.sub k (nat_lit 1))) (nat_lit 1)))) (fAsm s (Nat.sub e (nat_lit 1)) v) (Nat.beq k (nat_lit 0)))
noncomputable def fRn4 (s v e g : Nat) : Nat := (@Bool.rec (fun _ => Nat) (fAsm s (Nat.sub (Nat.sub (Nat.add e g) (nat_lit 52)) (nat_lit 1)) (Nat.mul v (Nat.pow (nat_lit 2) (Nat.sub (nat_lit 52) g)))) (fRn3 s v e (Nat.sub g (nat_lit 52))) (Nat.ble (nat_lit 52) g))
noncomputable def fRn2 (s v e d p : Nat) : Nat := (@Bool.rec (fun _ => Nat) (@Bool.rec (fun _ => Nat) (@Bool.rec (fun _ => Nat) (nat_lit 18446744073709551616) (fRn3 s v e (Nat.sub d (nat_lit 1))) (Nat.ble p (Nat.mul (nat_lit 2) v))) (fRn4 s v e (lgF v)) (Nat.blt v (nat_lit 18446744073709551616))) (@Bool.rec (fun _ => Nat) (fRn3 s v e d) (fRn3 s v e (Nat.succ d)) (Nat.ble (Nat.mul (nat_lit 2) p) v)) (Nat.ble p v))
noncomputable def fAdd4 (e s1 m1 s2 n2 d : Nat) : Nat := (@Bool.rec (fun _ => Nat) (@Bool.rec (fun _ => Nat) (@Bool.rec (fun _ => Nat) (nat_lit 0) (fRn2 s1 (Nat.sub m1 n2) e d (Nat.pow (nat_lit 2) (Nat.add d (nat_lit 52)))) (Nat.blt n2 m1)) (fRn2 s2 (Nat.sub n2 m1) e d (Nat.pow (nat_lit 2) (Nat.add d (nat_lit 52)))) (Nat.blt m1 n2)) (fRn2 s1 (Nat.add m1 n2) e d (Nat.pow (nat_lit 2) (Nat.add d (nat_lit 52)))) (Nat.beq s1 s2))
noncomputable def fAddZ (sa sb a b : Nat) : Nat := (@Bool.rec (fun _ => Nat) (@Bool.rec (fun _ => Nat) (nat_lit 18446744073709551616) (@Bool.rec (fun _ => Nat) (nat_lit 18446744073709551616) a (fOk (Nat.mod sa (nat_lit 2048)))) (Nat.beq (Nat.mod b (nat_lit 9223372036854775808)) (nat_lit 0))) (@Bool.rec (fun _ => Nat) (nat_lit 18446744073709551616) b (fOk (Nat.mod sb (nat_lit 2048)))) (Nat.beq (Nat.mod a (nat_lit 9223372036854775808)) (nat_lit 0)))
noncomputable def fAdd2 (ea sa ma eb sb mb : Nat) : Nat := (@Bool.rec (fun _ => Nat) (fAdd4 eb sb mb sa (Nat.mul ma (Nat.pow (nat_lit 2) (Nat.sub ea eb))) (Nat.sub ea eb)) (fAdd4 ea sa ma sb (Nat.mul mb (Nat.pow (nat_lit 2) (Nat.sub eb ea))) (Nat.sub eb ea)) (Nat.ble ea eb))
noncomputable def fAdd1 (sa sb a b : Nat) : Nat := (@Bool.rec (fun _ => Nat) (fAddZ sa sb a b) (@Bool.rec (fun _ => Nat) (fAddZ sa sb a b) (fAdd2 (Nat.mod sa (nat_lit 2048)) (Nat.div sa (nat_lit 2048)) (fMa a) (Nat.mod sb (nat_lit 2048)) (Nat.div sb (nat_lit 2048)) (fMa b)) (fOk (Nat.mod sb (nat_lit 2048)))) (fOk (Nat.mod sa (nat_lit 2048))))
noncomputable def fAddN (a b : Nat) : Nat := fAdd1 (Nat.div a (nat_lit 4503599627370496)) (Nat.div b (nat_lit 4503599627370496)) a b
noncomputable def fNegN (a : Nat) : Nat := (@Bool.rec (fun _ => Nat) (Nat.sub a (nat_lit 9223372036854775808)) (Nat.add a (nat_lit 9223372036854775808)) (Nat.blt a (nat_lit 9223372036854775808)))
noncomputable def fLong (n : Nat) (o : UInt64) : UInt64 := frc n fun n => (@Bool.rec (fun _ => UInt64) o (UInt64.ofNat n) (Nat.blt n (nat_lit 18446744073709551616)))
noncomputable def dmulF (a b : UInt64) : UInt64 := fLong (fMulN a.toNat b.toNat) (FP.dmul a b)
noncomputable def daddF (a b : UInt64) : UInt64 := fLong (fAddN a.toNat b.toNat) (FP.dadd a b)
noncomputable def dsubF (a b : UInt64) : UInt64 := fLong (fAddN a.toNat (fNegN b.toNat)) (FP.dsub a b)
noncomputable def okN (n : Nat) : Bool := Nat.ble (Nat.mod n (nat_lit 9223372036854775808)) (nat_lit 9218868437227405312)
noncomputable def ck {α : Type} (v : UInt64) (k : UInt64 → Option α) : Option α := frc v.toNat fun n => (@Bool.rec (fun _ => Option α) none (k (UInt64.ofNat n)) (okN n))
