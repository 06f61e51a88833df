/-! THE RUN's OWN NUMBERS AND WHAT IS KNOWN OF THEM: D = (the start's state, the classes' numbers and slots, addresses of constants) -/
abbrev DD : Type := State × va_G × (Nat → Nat)
def dC (D : DD) (k : Nat) : ClassId := D.2.1.1 k
def dS (D : DD) (k j : Nat) : Nat := D.2.1.2 k j
def dN (D : DD) (k : Nat) : Nat := D.2.2 k
def dB (D : DD) : Nat := D.1.heap.size
/-- an address or none: of a static that is a reference or null -/
def dQ (D : DD) : Option Nat := if dN D 18 = 0 then none else some (dN D 19)
/-- 0 Anglewheel, 1 AnglewheelLaw, 2 BigInteger, 3 String, 4 StringBuilder, 5 Double, 6 IndexOutOfBounds, 7 IllegalArgument -/
abbrev kCl : List vw_C := [(RX1, TX1, 7), (RX0, TX0, 1), (RJ16, TJ16, 6), (RJ5, TJ5, 4), (RJ22, TJ22, 4), (RJ10, TJ10, 1), (RJ3, TJ3, 6), (RJ20, TJ20, 6)]
/-- an array's cell; of a byte array that the run made the class is that which is named "[B" -/
def IA (D : DD) (q : Nat) (cell : Cell) (ty : FieldType) : Prop := D.1.isArrayOf cell ty ∧ (ty = .byte → dB D ≤ q → D.1.vm.findClass "[B" = some cell.cls)
/-- an array that can be read: its length as an int, its first n elements -/
def RA (D : DD) (ty : FieldType) (q n : Nat) (f : Nat → Value) (H : Heap) : Prop := ∃ cell : Cell, H[q]? = some cell ∧ IA D q cell ty ∧ cell.vm ≠ .unknown ∧ n ≤ cell.slots.size ∧ cell.slots.size.toInt32 = nI n ∧ ∀ j : Nat, j < n → cell.slots[j]? = some (f j)
abbrev aI (D : DD) (q n : Nat) (f : Nat → Int32) (H : Heap) : Prop := RA D .int q n (fun j => .int (f j)) H
abbrev aB (D : DD) (q n : Nat) (f : Nat → Int32) (H : Heap) : Prop := RA D .byte q n (fun j => .int (f j)) H
abbrev aZ (D : DD) (q n : Nat) (f : Nat → Int32) (H : Heap) : Prop := RA D .boolean q n (fun j => .int (f j)) H
abbrev aL (D : DD) (q n : Nat) (f : Nat → Int64) (H : Heap) : Prop := RA D .long q n (fun j => .long (f j)) H
abbrev aD (D : DD) (q n : Nat) (f : Nat → UInt64) (H : Heap) : Prop := RA D .double q n (fun j => .double (f j)) H
/-- an object of class number k whose fields can be read; ON: one that the run made, so it can be written -/
def OA (D : DD) (k q : Nat) (fs : List Value) (H : Heap) : Prop := ∃ cell : Cell, H[q]? = some cell ∧ cell.cls = dC D k ∧ cell.vm.isStatics = false ∧ cell.vm ≠ .unknown ∧ ∀ j : Nat, j < fs.length → cell.slots[dS D k j]? = some (vp_V fs j)
def ON (D : DD) (k q : Nat) (fs : List Value) (H : Heap) : Prop := ∃ cell : Cell, H[q]? = some cell ∧ cell.cls = dC D k ∧ cell.vm = .none ∧ ∀ j : Nat, j < fs.length → cell.slots[dS D k j]? = some (vp_V fs j)
theorem ON.OA {D : DD} {k q : Nat} {fs : List Value} {H : Heap} (h : ON D k q fs H) : OA D k q fs H := by
  obtain ⟨cell, h1, h2, h3, h4⟩ := h
  exact ⟨cell, h1, h2, by rw [h3]; rfl, by rw [h3]; exact fun z => (by cases z), h4⟩
/-- statics and what they hold; static arrays that nobody writes -/
def stV (D : DD) : List (String × String × String × Value) := [
  ("AnglewheelLaw", "EIGHTHS", "[J", .ref (dN D 0)), ("AnglewheelLaw", "SINES", "[J", .ref (dN D 1)), ("AnglewheelLaw", "COSINES", "[J", .ref (dN D 2)),
  ("java/lang/FdLibm$RemPio2", "npio2_hw", "[I", .ref (dN D 3)), ("java/lang/FdLibm$RemPio2", "two_over_pi", "[I", .ref (dN D 4)), ("java/lang/FdLibm$KernelRemPio2", "init_jk", "[I", .ref (dN D 5)),
  ("java/lang/FdLibm$KernelRemPio2", "PIo2", "[D", .ref (dN D 6)), ("java/lang/FdLibm$Tan", "T", "[D", .ref (dN D 7)), ("java/lang/Math", "twoToTheDoubleScaleDown", "D", .double 2301339409586323456), ("java/lang/Math", "twoToTheDoubleScaleUp", "D", .double 6913025428013711360),
  ("java/lang/Math", "$assertionsDisabled", "Z", .int 1), ("java/lang/Math", "negativeZeroDoubleBits", "J", .long (-9223372036854775808)), ("java/lang/StrictMath", "$assertionsDisabled", "Z", .int 1), ("java/lang/String", "COMPACT_STRINGS", "Z", .int 1),
  ("java/math/BigInteger", "ZERO", "Ljava/math/BigInteger;", .ref (dN D 8)), ("java/math/BigInteger", "negConst", "[Ljava/math/BigInteger;", .ref (dN D 9)), ("java/lang/Integer", "DigitOnes", "[B", .ref (dN D 10)), ("java/lang/Integer", "DigitTens", "[B", .ref (dN D 11)),
  ("java/lang/CharacterDataLatin1", "instance", "Ljava/lang/CharacterDataLatin1;", .ref (dN D 12)), ("java/lang/CharacterDataLatin1", "DIGITS", "[B", .ref (dN D 13)),
  ("jdk/internal/util/Preconditions", "SIOOBE_FORMATTER", "Ljava/util/function/BiFunction;", va_rf (dQ D))]
def tl_EIGHTHS : List Int64 := [0, 0, 1, 32768, 9007199254740992, 67584, 1420, 2840]
def tb_EIGHTHS (k : Nat) : Int64 := tl_EIGHTHS.getD k 0
def tl_SINES : List Int64 := [0, 0, 133868475, (-638491973), 533001699, (-273292063), 1073741823, (-32368)]
def tb_SINES (k : Nat) : Int64 := tl_SINES.getD k 0
def tl_COSINES : List Int64 := [1073741824, 1073741824, 1065364132, 863278347, 932110880, (-1038379966), (-16184), (-1073741824)]
def tb_COSINES (k : Nat) : Int64 := tl_COSINES.getD k 0
def tl_npio2 : List Int32 := [1073291771, 1074340347, 1074977148, 1075388923, 1075800698, 1076025724, 1076231611, 1076437499, 1076643386, 1076849274, 1076971356, 1077074300, 1077177244, 1077280187, 1077383131, 1077486075, 1077589019, 1077691962, 1077794906, 1077897850, 1077968460, 1078019932, 1078071404, 1078122876, 1078174348, 1078225820, 1078277292, 1078328763, 1078380235, 1078431707, 1078483179, 1078534651]
def tb_npio2 (k : Nat) : Int32 := tl_npio2.getD k 0
def tl_twoOverPi : List Int32 := [10680707, 7228996, 1387004, 2578385, 16069853, 12639074, 9804092, 4427841, 16666979, 11263675, 12935607, 2387514, 4345298, 14681673, 3074569, 13734428, 16653803, 1880361, 10960616, 8533493, 3062596, 8710556, 7349940, 6258241, 3772886, 3769171, 3798172, 8675211, 12450088, 3874808, 9961438, 366607, 15675153, 9132554, 7151469, 3571407, 2607881, 12013382, 4155038, 6285869, 7677882, 13102053, 15825725, 473591, 9065106, 15363067, 6271263, 9264392, 5636912, 4652155, 7056368, 13614112, 10155062, 1944035, 9527646, 15080200, 6658437, 6231200, 6832269, 16767104, 5075751, 3212806, 1398474, 7579849, 6349435, 12618859]
def tb_twoOverPi (k : Nat) : Int32 := tl_twoOverPi.getD k 0
def tl_initJk : List Int32 := [2, 3, 4, 6]
def tb_initJk (k : Nat) : Int32 := tl_initJk.getD k 0
def tl_PIo2 : List UInt64 := [4609753056584663040, 4500296887714185216, 4393339057296375808, 4285399695318056960, 4174867106174599168, 4069606033725587456, 3955147982449410048, 3848874662444400640]
def tb_PIo2 (k : Nat) : UInt64 := tl_PIo2.getD k 0
def tl_T : List UInt64 := [4599676419421066595, 4593971859893059194, 4587938466107703806, 4581960672245896759, 4576262931677611155, 4570429193025094440, 4564358403679355669, 4558562946408670465, 4553182066015801448, 4545397049192321702, 4544897349388904425, 13759470804966331251, 4538267711989316308]
def tb_T (k : Nat) : UInt64 := tl_T.getD k 0
def tl_DigitOnes : List Int32 := [48, 49, 50, 51, 52, 53, 54, 55, 56, 57, 48, 49, 50, 51, 52, 53, 54, 55, 56, 57, 48, 49, 50, 51, 52, 53, 54, 55, 56, 57, 48, 49, 50, 51, 52, 53, 54, 55, 56, 57, 48, 49, 50, 51, 52, 53, 54, 55, 56, 57, 48, 49, 50, 51, 52, 53, 54, 55, 56, 57, 48, 49, 50, 51, 52, 53, 54, 55, 56, 57, 48, 49, 50, 51, 52, 53, 54, 55, 56, 57, 48, 49, 50, 51, 52, 53, 54, 55, 56, 57, 48, 49, 50, 51, 52, 53, 54, 55, 56, 57]
def tb_DigitOnes (k : Nat) : Int32 := tl_DigitOnes.getD k 0
def tl_DigitTens : List Int32 := [48, 48, 48, 48, 48, 48, 48, 48, 48, 48, 49, 49, 49, 49, 49, 49, 49, 49, 49, 49, 50, 50, 50, 50, 50, 50, 50, 50, 50, 50, 51, 51, 51, 51, 51, 51, 51, 51, 51, 51, 52, 52, 52, 52, 52, 52, 52, 52, 52, 52, 53, 53, 53, 53, 53, 53, 53, 53, 53, 53, 54, 54, 54, 54, 54, 54, 54, 54, 54, 54, 55, 55, 55, 55, 55, 55, 55, 55, 55, 55, 56, 56, 56, 56, 56, 56, 56, 56, 56, 56, 57, 57, 57, 57, 57, 57, 57, 57, 57, 57]
def tb_DigitTens (k : Nat) : Int32 := tl_DigitTens.getD k 0
def tl_DIGITS : List Int32 := [(-1), (-1), (-1), (-1), (-1), (-1), (-1), (-1), (-1), (-1), (-1), (-1), (-1), (-1), (-1), (-1), (-1), (-1), (-1), (-1), (-1), (-1), (-1), (-1), (-1), (-1), (-1), (-1), (-1), (-1), (-1), (-1), (-1), (-1), (-1), (-1), (-1), (-1), (-1), (-1), (-1), (-1), (-1), (-1), (-1), (-1), (-1), (-1), 0, 1, 2, 3, 4, 5, 6, 7, 8, 9, (-1), (-1), (-1), (-1), (-1), (-1), (-1), 10, 11, 12, 13, 14, 15, 16, 17, 18, 19, 20, 21, 22, 23, 24, 25, 26, 27, 28, 29, 30, 31, 32, 33, 34, 35, (-1), (-1), (-1), (-1), (-1), (-1), 10, 11, 12, 13, 14, 15, 16, 17, 18, 19, 20, 21, 22, 23, 24, 25, 26, 27, 28, 29, 30, 31, 32, 33, 34, 35, (-1), (-1), (-1), (-1), (-1), (-1), (-1), (-1), (-1), (-1), (-1), (-1), (-1), (-1), (-1), (-1), (-1), (-1), (-1), (-1), (-1), (-1), (-1), (-1), (-1), (-1), (-1), (-1), (-1), (-1), (-1), (-1), (-1), (-1), (-1), (-1), (-1), (-1), (-1), (-1), (-1), (-1), (-1), (-1), (-1), (-1), (-1), (-1), (-1), (-1), (-1), (-1), (-1), (-1), (-1), (-1), (-1), (-1), (-1), (-1), (-1), (-1), (-1), (-1), (-1), (-1), (-1), (-1), (-1), (-1), (-1), (-1), (-1), (-1), (-1), (-1), (-1), (-1), (-1), (-1), (-1), (-1), (-1), (-1), (-1), (-1), (-1), (-1), (-1), (-1), (-1), (-1), (-1), (-1), (-1), (-1), (-1), (-1), (-1), (-1), (-1), (-1), (-1), (-1), (-1), (-1), (-1), (-1), (-1), (-1), (-1), (-1), (-1), (-1), (-1), (-1), (-1), (-1), (-1), (-1), (-1), (-1), (-1), (-1), (-1), (-1), (-1), (-1), (-1), (-1), (-1), (-1), (-1)]
def tb_DIGITS (k : Nat) : Int32 := tl_DIGITS.getD k 0
/-- a static field of Throwable that holds null or some reference, where it lies (what a throw reads) -/
def ZQ (D : DD) (n d : String) : Prop := va_Zq Bundle.tN n d (fun q => dB D ≤ q) D.1 D.1.heap ∧ ∃ (c : ClassId) (k : Class) (i : Nat) (f : Field) (a : Nat) (cell : Cell), D.1.vm.findClass Bundle.tN = some c ∧ D.1.fieldFound? Bundle.tN n d = some (c, k, i, f) ∧ f.isStatic = true ∧ k.statics = some a ∧ D.1.heap[a]? = some cell ∧ cell.vm.isStatics = true ∧ cell.cls = c ∧ f.slot < cell.slots.size ∧ k.staticTypes[f.slot]? = some f.type ∧ ¬ (dB D ≤ a)
/-- what is known at the start, once for all -/
def KD (D : DD) : Prop := (∀ (k : Nat) (q : vw_C), kCl[k]? = some q → u_Kn D.1 q.1 q.2.1 q.2.2 (dC D k) (dS D k)) ∧ (∃ A : Array Value, ∀ w ∈ lw_tbl, w.before A D.1 = true) ∧
  (∀ e ∈ stV D, va_Z e.1 e.2.1 e.2.2.1 e.2.2.2 (fun q => dB D ≤ q) D.1 D.1.heap) ∧
  (aL D (dN D 0) 8 tb_EIGHTHS D.1.heap ∧ aL D (dN D 1) 8 tb_SINES D.1.heap ∧ aL D (dN D 2) 8 tb_COSINES D.1.heap ∧ aI D (dN D 3) 32 tb_npio2 D.1.heap ∧ aI D (dN D 4) 66 tb_twoOverPi D.1.heap ∧ aI D (dN D 5) 4 tb_initJk D.1.heap ∧ aD D (dN D 6) 8 tb_PIo2 D.1.heap ∧ aD D (dN D 7) 13 tb_T D.1.heap ∧
   aB D (dN D 10) 100 tb_DigitOnes D.1.heap ∧ aB D (dN D 11) 100 tb_DigitTens D.1.heap ∧ aB D (dN D 13) 256 tb_DIGITS D.1.heap) ∧
  (RA D (.object "java/math/BigInteger") (dN D 9) 2 (fun j => if j = 1 then .ref (dN D 14) else .null) D.1.heap ∧ (∃ a b c d : Int32, OA D 2 (dN D 8) [.int 0, .ref (dN D 15), .int a, .int b, .int c, .int d] D.1.heap) ∧ (∃ f : Nat → Int32, aI D (dN D 15) 0 f D.1.heap) ∧
   (∃ a b c : Int32, OA D 2 (dN D 14) [.int (-1), .ref (dN D 16), .int a, .int b, .int c, .int 2] D.1.heap) ∧ aI D (dN D 16) 1 (fun _ => 1) D.1.heap) ∧
  (∃ cell : Cell, D.1.heap[dN D 12]? = some cell ∧ cell.vm.isStatics = false ∧ D.1.vm.findClass "java/lang/CharacterDataLatin1" = some cell.cls) ∧
  ZQ D "UNASSIGNED_STACK" Bundle.steD ∧ ZQ D "SUPPRESSED_SENTINEL" Bundle.listD ∧ va_Nc "java/lang/IllegalArgumentException" "java/lang/IndexOutOfBoundsException" D.1
/-- what holds all through the run: the tables are the start's, warmed; old cells stand as they stood -/
def GG (D : DD) (U : State) (H : Heap) : Prop := KD D ∧ D.1.WarmedH U.vm ∧ dB D ≤ H.size ∧ ∀ q : Nat, q < dB D → H[q]? = D.1.heap[q]?
/-- from H to H' nothing outside A has changed -/
def Off (A : Nat → Prop) (H H' : Heap) : Prop := H.size ≤ H'.size ∧ ∀ q : Nat, q < H.size → ¬ A q → H'[q]? = H[q]?
abbrev Ext (H H' : Heap) : Prop := Off (fun _ => False) H H'
theorem Off.rf {A : Nat → Prop} {H : Heap} : Off A H H := ⟨Nat.le_refl _, fun _ _ _ => rfl⟩
theorem Off.trans {A : Nat → Prop} {H H1 H2 : Heap} (h : Off A H H1) (h2 : Off A H1 H2) : Off A H H2 := ⟨Nat.le_trans h.1 h2.1, fun q a b => (h2.2 q (Nat.lt_of_lt_of_le a h.1) b).trans (h.2 q a b)⟩
theorem Off.mono {A B : Nat → Prop} {H H1 : Heap} (h : Off A H H1) (hAB : ∀ q, q < H.size → A q → B q) : Off B H H1 := ⟨h.1, fun q a b => h.2 q a (fun z => b (hAB q a z))⟩
/-- what was made since H0 may be written: still only made cells are new -/
theorem Off.fresh {A : Nat → Prop} {B : Nat → Prop} {H H1 H2 : Heap} (h : Off B H H1) (h2 : Off A H1 H2) (hA : ∀ q, q < H.size → A q → B q) : Off B H H2 := ⟨Nat.le_trans h.1 h2.1, fun q a b => (h2.2 q (Nat.lt_of_lt_of_le a h.1) (fun z => b (hA q a z))).trans (h.2 q a b)⟩
theorem RA.lt {D : DD} {ty : FieldType} {q n : Nat} {f : Nat → Value} {H : Heap} (h : RA D ty q n f H) : q < H.size := by
  obtain ⟨cell, h1, -⟩ := h
  exact (Array.getElem?_eq_some_iff.mp h1).1
theorem OA.lt {D : DD} {k q : Nat} {fs : List Value} {H : Heap} (h : OA D k q fs H) : q < H.size := by
  obtain ⟨cell, h1, -⟩ := h
  exact (Array.getElem?_eq_some_iff.mp h1).1
theorem ON.lt {D : DD} {k q : Nat} {fs : List Value} {H : Heap} (h : ON D k q fs H) : q < H.size := h.OA.lt
theorem RA.off {D : DD} {ty : FieldType} {q n : Nat} {f : Nat → Value} {A : Nat → Prop} {H H' : Heap} (h : RA D ty q n f H) (o : Off A H H') (hq : ¬ A q) : RA D ty q n f H' := by
  have hl := h.lt
  obtain ⟨cell, h1, h2⟩ := h
  exact ⟨cell, by rw [o.2 q hl hq]; exact h1, h2⟩
theorem OA.off {D : DD} {k q : Nat} {fs : List Value} {A : Nat → Prop} {H H' : Heap} (h : OA D k q fs H) (o : Off A H H') (hq : ¬ A q) : OA D k q fs H' := by
  have hl := h.lt
  obtain ⟨cell, h1, h2⟩ := h
  exact ⟨cell, by rw [o.2 q hl hq]; exact h1, h2⟩
theorem ON.off {D : DD} {k q : Nat} {fs : List Value} {A : Nat → Prop} {H H' : Heap} (h : ON D k q fs H) (o : Off A H H') (hq : ¬ A q) : ON D k q fs H' := by
  have hl := h.lt
  obtain ⟨cell, h1, h2⟩ := h
  exact ⟨cell, by rw [o.2 q hl hq]; exact h1, h2⟩
theorem RA.ext {D : DD} {ty : FieldType} {q n : Nat} {f : Nat → Value} {H H' : Heap} (h : RA D ty q n f H) (o : Ext H H') : RA D ty q n f H' := h.off o id
theorem OA.ext {D : DD} {k q : Nat} {fs : List Value} {H H' : Heap} (h : OA D k q fs H) (o : Ext H H') : OA D k q fs H' := h.off o id
theorem ON.ext {D : DD} {k q : Nat} {fs : List Value} {H H' : Heap} (h : ON D k q fs H) (o : Ext H H') : ON D k q fs H' := h.off o id
/-- only the first n elements count -/
theorem RA.congr {D : DD} {ty : FieldType} {q n : Nat} {f g : Nat → Value} {H : Heap} (h : RA D ty q n f H) (e : ∀ j, j < n → f j = g j) : RA D ty q n g H := by
  obtain ⟨cell, h1, h2, h3, h4, h5, h6⟩ := h
  exact ⟨cell, h1, h2, h3, h4, h5, fun j hj => by rw [h6 j hj, e j hj]⟩
/-- a start's cell, in any heap of the run -/
theorem GG.RA {D : DD} {U : State} {H : Heap} (hG : GG D U H) {ty : FieldType} {q n : Nat} {f : Nat → Value} (h : RA D ty q n f D.1.heap) : RA D ty q n f H := by
  have hl := h.lt
  obtain ⟨cell, h1, h2⟩ := h
  exact ⟨cell, by rw [hG.2.2.2 q hl]; exact h1, h2⟩
theorem GG.OA {D : DD} {U : State} {H : Heap} (hG : GG D U H) {k q : Nat} {fs : List Value} (h : OA D k q fs D.1.heap) : OA D k q fs H := by
  have hl := h.lt
  obtain ⟨cell, h1, h2⟩ := h
  exact ⟨cell, by rw [hG.2.2.2 q hl]; exact h1, h2⟩
theorem GG.off {D : DD} {U : State} {A : Nat → Prop} {H H' : Heap} (hG : GG D U H) (o : Off A H H') (hA : ∀ q, A q → dB D ≤ q) : GG D U H' :=
  ⟨hG.1, hG.2.1, Nat.le_trans hG.2.2.1 o.1, fun q hq => (o.2 q (Nat.lt_of_lt_of_le hq hG.2.2.1) (fun z => Nat.not_lt.mpr (hA q z) hq)).trans (hG.2.2.2 q hq)⟩
theorem GG.warm {D : DD} {s U : State} {H : Heap} (hG : GG D s H) (hW : s.WarmedH U.vm) : GG D U H := ⟨hG.1, State.WarmedH.trans hG.2.1 hW, hG.2.2⟩
theorem GG.alike {D : DD} {U : State} {H : Heap} (hG : GG D U H) : D.1.vm.Alike U.vm := hG.2.1.alike
/-- the standing of a walk -/
def St (D : DD) (s : State) (H : Heap) (locs : List Loc) : Prop := GG D s H ∧ s.heap.size ≤ H.size ∧ ∀ l ∈ locs, dB D ≤ l.base
theorem St.put {D : DD} {s : State} {H H' : Heap} {locs : List Loc} {a i : Nat} (h : St D s H locs) (z : H'.size = H.size) (oq : ∀ q : Nat, q ≠ a → H'[q]? = H[q]?) (ha : dB D ≤ a) : St D s H' (locs ++ [⟨a, i⟩]) := by
  refine ⟨h.1.off (A := fun q => q = a) ⟨by omega, fun q _ hq => oq q hq⟩ (fun q hq => by rw [hq]; exact ha), by rw [z]; exact h.2.1, fun l hl => ?_⟩
  rcases List.mem_append.mp hl with h1 | h1
  · exact h.2.2 l h1
  · rw [List.mem_singleton.mp h1]; exact ha
theorem St.ext {D : DD} {s : State} {H H' : Heap} {locs : List Loc} (h : St D s H locs) (o : Ext H H') : St D s H' locs := ⟨h.1.off o (fun _ z => z.elim), Nat.le_trans h.2.1 o.1, h.2.2⟩
/-! ## contracts -/
def TQ (D : DD) (Post : Heap → Option Value → Heap → Prop) : Array Value → State → Outcome → State → Prop := fun _ st o t => ∃ r : Option Value, o = .returned r ∧ Post st.heap r t.heap ∧ st.heap.size ≤ t.heap.size ∧ ∀ q : Nat, q < dB D → t.heap[q]? = D.1.heap[q]?
def TP (D : DD) (av : List Value) (Pre : Heap → Prop) : Array Value → State → Prop := fun v U => v = av.toArray ∧ GG D U U.heap ∧ Pre U.heap
def MT (l : Launch) (D : DD) (y : MethodName) (cc : ByteArray) (nL : Nat) (ret : Option FieldType) (fr lo mc ms : Nat) (av : List Value) (Pre : Heap → Prop) (Post : Heap → Option Value → Heap → Prop) : Prop :=
  Met l y (ws_ y cc nL ret) { frames := fr, cells := mc, slots := ms, locals := lo } (TP D av Pre) (TQ D Post) mc ms (fun q => dB D ≤ q)
def PQ (r : Option Value) : Array Value → State → Outcome → State → Prop := fun _ st o t => o = .returned r ∧ t.heap = st.heap
def MP (l : Launch) (D : DD) (y : MethodName) (cc : ByteArray) (nL : Nat) (ret : Option FieldType) (fr lo : Nat) (av : List Value) (Pre : Heap → Prop) (r : Option Value) : Prop :=
  Met l y (ws_ y cc nL ret) { frames := fr, cells := 0, slots := 0, locals := lo } (TP D av Pre) (PQ r) 0 0 (fun _ => False)
abbrev NoPre : Heap → Prop := fun _ => True
/-- the ways in which a method answers -/
def pI (P : Heap → Int32 → Heap → Prop) : Heap → Option Value → Heap → Prop := fun H v H' => ∃ b : Int32, v = some (.int b) ∧ P H b H'
def pL (P : Heap → Int64 → Heap → Prop) : Heap → Option Value → Heap → Prop := fun H v H' => ∃ b : Int64, v = some (.long b) ∧ P H b H'
def pD (P : Heap → UInt64 → Heap → Prop) : Heap → Option Value → Heap → Prop := fun H v H' => ∃ b : UInt64, v = some (.double b) ∧ P H b H'
def pR (P : Heap → Nat → Heap → Prop) : Heap → Option Value → Heap → Prop := fun H v H' => ∃ b : Nat, v = some (.ref b) ∧ P H b H'
def pV (P : Heap → Heap → Prop) : Heap → Option Value → Heap → Prop := fun H v H' => v = none ∧ P H H'
def bI (b : Bool) : Int32 := if b then 1 else 0
def pZ (P : Heap → Bool → Heap → Prop) : Heap → Option Value → Heap → Prop := fun H v H' => ∃ b : Bool, v = some (.int (bI b)) ∧ P H b H'
/-- what holds of the machine in a method's body -/
def Cx (p : Program) (s : State) (m : MethodId) (args : Array Value) (meth : Method) (c : Code) (y : MethodName) (cc : ByteArray) (nL : Nat) (ret : Option FieldType) : Prop :=
  p.tables.exec = Jvm.exec ∧ c.code = cc ∧ meth.sig.returnType = ret ∧ meth.locks = false ∧ c.maxLocals = nL ∧ s.vm.findClass y.cls = some m.cls ∧ (∀ w ∈ lw_all, w.before args s = true) ∧ meth.name = y.name
theorem MT.start {l : Launch} {D : DD} {y : MethodName} {cc : ByteArray} {nL : Nat} {ret : Option FieldType} {fr lo mc ms : Nat} {av : List Value} {Pre : Heap → Prop} {Post : Heap → Option Value → Heap → Prop} (hy : plainFor y = true) (hn : (lg_sl av).length ≤ nL)
    (body : ∀ (p : Program) (e : Env) (s : State) (m : MethodId) (below : List Frame) (meth : Method) (c : Code) (ls : Array Slot), Cx p s m av.toArray meth c y cc nL ret → St D s s.heap [] → Pre s.heap → lv_has ls nL (lv_args 0 av) →
      W p l e { frames := fr, cells := mc, slots := ms, locals := lo } s m av.toArray below meth c s.heap [] 0 0 (MQ below (TQ D Post) av.toArray s mc ms (fun q => dB D ≤ q)) (F0 m 0 ls [])) : MT l D y cc nL ret fr lo mc ms av Pre Post := by
  refine va_MetF (cc := cc) (maxL := nL) (ret := ret) hy rfl ?_
  intro p e s m args below meth c s₁ B hml hv
  obtain ⟨rfl, hG, hp⟩ := hv
  have hts := atoms_spec (ws := ws_ y cc nL ret) B.pre
  have hl := lv_entry av hn
  rw [lg_entry_eq]
  exact body p e s m below meth c _ ⟨B.exec, B.bytes, B.returns, B.notSynchronized, hml, findClass_of_methodNamed B.named, fun w h => hts w (List.mem_cons_of_mem _ h), (name_of_methodNamed B.named B.method).1⟩ ⟨hG, Nat.le_refl _, fun _ h => by cases h⟩ hp hl
theorem MP.start {l : Launch} {D : DD} {y : MethodName} {cc : ByteArray} {nL : Nat} {ret : Option FieldType} {fr lo : Nat} {av : List Value} {Pre : Heap → Prop} {r : Option Value} (hy : plainFor y = true) (hn : (lg_sl av).length ≤ nL)
    (body : ∀ (p : Program) (e : Env) (s : State) (m : MethodId) (below : List Frame) (meth : Method) (c : Code) (ls : Array Slot), Cx p s m av.toArray meth c y cc nL ret → St D s s.heap [] → Pre s.heap → lv_has ls nL (lv_args 0 av) →
      W p l e { frames := fr, cells := 0, slots := 0, locals := lo } s m av.toArray below meth c s.heap [] 0 0 (MQ below (PQ r) av.toArray s 0 0 (fun _ => False)) (F0 m 0 ls [])) : MP l D y cc nL ret fr lo av Pre r := by
  refine va_MetF (cc := cc) (maxL := nL) (ret := ret) hy rfl ?_
  intro p e s m args below meth c s₁ B hml hv
  obtain ⟨rfl, hG, hp⟩ := hv
  have hts := atoms_spec (ws := ws_ y cc nL ret) B.pre
  have hl := lv_entry av hn
  rw [lg_entry_eq]
  exact body p e s m below meth c _ ⟨B.exec, B.bytes, B.returns, B.notSynchronized, hml, findClass_of_methodNamed B.named, fun w h => hts w (List.mem_cons_of_mem _ h), (name_of_methodNamed B.named B.method).1⟩ ⟨hG, Nat.le_refl _, fun _ h => by cases h⟩ hp hl
theorem TP.blind {D : DD} {av : List Value} {Pre : Heap → Prop} : FrameBlind (TP D av Pre) := fun _ _ _ _ h => h
/-- place i of an array of length n -/
def IX (j : Int32) (n i : Nat) : Prop := j = nI i ∧ i < n ∧ n ≤ 2147483647
theorem IX.cl {j : Int32} {n i : Nat} (h : IX j n i) : j.toNatClampNeg = i := by rw [h.1]; exact nI_clamp (by have := h.2; omega)
theorem IX.in {j : Int32} {n i : Nat} (h : IX j n i) {k : Nat} (hk : n ≤ k) : ¬ (j < 0 ∨ k ≤ j.toNatClampNeg) := by
  rw [h.cl]
  rintro (z | z)
  · rw [h.1] at z; exact nI_pos (by have := h.2; omega) z
  · have := h.2.1; omega
section ROWS
variable {p : Program} {l : Launch} {e : Env} {R : Room} {s : State} {m : MethodId} {args : Array Value} {below : List Frame} {meth : Method} {c : Code} {H : Heap} {locs : List Loc} {cells slots : Nat} {Q : State → Prop}
variable {cc : ByteArray} {pc : Nat} {ls : Array Slot} {rest : List Value} {D : DD} {q n i : Nat} {j : Int32}
theorem r_iald (hx : p.tables.exec = Jvm.exec) (hb : c.code = cc) (hS : St D s H locs) {f : Nat → Int32} (hA : aI D q n f H) (i : Nat) (hj : IX j n i) (hdg : decode cc pc = .ok (.iaload, 1))
    (k : W p l e R s m args below meth c H locs cells slots Q (F0 m (pc + 1) ls (.int (f i) :: rest))) : W p l e R s m args below meth c H locs cells slots Q (F0 m pc ls (.int j :: .ref q :: rest)) := by
  obtain ⟨cell, h1, h2, h3, h4, h5, h6⟩ := hA
  exact W.iald hx hb h1 (State.isArrayOf_alike hS.1.alike h2.1) h3 (hj.in h4) (by rw [hj.cl]; exact h6 i hj.2.1) rfl rfl hdg k
theorem r_lald (hx : p.tables.exec = Jvm.exec) (hb : c.code = cc) (hS : St D s H locs) {f : Nat → Int64} (hA : aL D q n f H) (i : Nat) (hj : IX j n i) (hdg : decode cc pc = .ok (.laload, 1))
    (k : W p l e R s m args below meth c H locs cells slots Q (F0 m (pc + 1) ls (.long (f i) :: rest))) : W p l e R s m args below meth c H locs cells slots Q (F0 m pc ls (.int j :: .ref q :: rest)) := by
  obtain ⟨cell, h1, h2, h3, h4, h5, h6⟩ := hA
  exact W.lald hx hb h1 (State.isArrayOf_alike hS.1.alike h2.1) h3 (hj.in h4) (by rw [hj.cl]; exact h6 i hj.2.1) rfl rfl hdg k
theorem r_dald (hx : p.tables.exec = Jvm.exec) (hb : c.code = cc) (hS : St D s H locs) {f : Nat → UInt64} (hA : aD D q n f H) (i : Nat) (hj : IX j n i) (hdg : decode cc pc = .ok (.daload, 1))
    (k : W p l e R s m args below meth c H locs cells slots Q (F0 m (pc + 1) ls (.double (f i) :: rest))) : W p l e R s m args below meth c H locs cells slots Q (F0 m pc ls (.int j :: .ref q :: rest)) := by
  obtain ⟨cell, h1, h2, h3, h4, h5, h6⟩ := hA
  exact W.dald hx hb h1 (State.isArrayOf_alike hS.1.alike h2.1) h3 (hj.in h4) (by rw [hj.cl]; exact h6 i hj.2.1) rfl rfl hdg k
theorem r_bald (hx : p.tables.exec = Jvm.exec) (hb : c.code = cc) (hS : St D s H locs) {f : Nat → Int32} (hA : aB D q n f H) (i : Nat) (hj : IX j n i) (hdg : decode cc pc = .ok (.baload, 1))
    (k : W p l e R s m args below meth c H locs cells slots Q (F0 m (pc + 1) ls (.int (f i) :: rest))) : W p l e R s m args below meth c H locs cells slots Q (F0 m pc ls (.int j :: .ref q :: rest)) := by
  obtain ⟨cell, h1, h2, h3, h4, h5, h6⟩ := hA
  exact W.bald hx hb h1 (State.isArrayOf_alike hS.1.alike h2.1) h3 (hj.in h4) (by rw [hj.cl]; exact h6 i hj.2.1) rfl rfl hdg k
theorem r_zald (hx : p.tables.exec = Jvm.exec) (hb : c.code = cc) (hS : St D s H locs) {f : Nat → Int32} (hA : aZ D q n f H) (i : Nat) (hj : IX j n i) (hdg : decode cc pc = .ok (.baload, 1))
    (k : W p l e R s m args below meth c H locs cells slots Q (F0 m (pc + 1) ls (.int (f i) :: rest))) : W p l e R s m args below meth c H locs cells slots Q (F0 m pc ls (.int j :: .ref q :: rest)) := by
  obtain ⟨cell, h1, h2, h3, h4, h5, h6⟩ := hA
  exact W.zald hx hb h1 (State.isArrayOf_alike hS.1.alike h2.1) h3 (hj.in h4) (by rw [hj.cl]; exact h6 i hj.2.1) rfl rfl hdg k
theorem r_aald (hx : p.tables.exec = Jvm.exec) (hb : c.code = cc) (hS : St D s H locs) {ty : FieldType} {f : Nat → Value} (hty : ty.isReference = true) (hA : RA D ty q n f H) (i : Nat) (hj : IX j n i) (hdg : decode cc pc = .ok (.aaload, 1))
    (k : W p l e R s m args below meth c H locs cells slots Q (F0 m (pc + 1) ls (f i :: rest))) : W p l e R s m args below meth c H locs cells slots Q (F0 m pc ls (.int j :: .ref q :: rest)) := by
  obtain ⟨cell, h1, h2, h3, h4, h5, h6⟩ := hA
  exact W.aald hx hb h1 (State.isArrayOf_alike hS.1.alike h2.1) hty h3 (hj.in h4) (by rw [hj.cl]; exact h6 i hj.2.1) rfl rfl hdg k
theorem r_alen (hx : p.tables.exec = Jvm.exec) (hb : c.code = cc) (hS : St D s H locs) {ty : FieldType} {f : Nat → Value} (hA : RA D ty q n f H) (hdg : decode cc pc = .ok (.arraylength, 1))
    (k : W p l e R s m args below meth c H locs cells slots Q (F0 m (pc + 1) ls (.int (nI n) :: rest))) : W p l e R s m args below meth c H locs cells slots Q (F0 m pc ls (.ref q :: rest)) := by
  obtain ⟨cell, h1, h2, h3, h4, h5, h6⟩ := hA
  exact W.alen hx hb h1 (State.isArrayOf_alike hS.1.alike h2.1) h5 rfl rfl hdg k
theorem RA.set {ty : FieldType} {f : Nat → Value} {H H' : Heap} {i : Nat} {x : Value} (hA : RA D ty q n f H) (h : ∃ cell : Cell, H[q]? = some cell ∧ H'[q]? = some (cell.setSlot i x)) (hi : i < n) : RA D ty q n (fun k => if k = i then x else f k) H' := by
  obtain ⟨cell, h1, h2, h3, h4, h5, h6⟩ := hA
  obtain ⟨cell', e1, e2⟩ := h
  obtain rfl : cell = cell' := Option.some.inj (h1.symm.trans e1)
  refine ⟨_, e2, h2, h3, ?_, ?_, fun k hk => ?_⟩
  · show n ≤ (cell.slots.setIfInBounds i x).size
    rw [Array.size_setIfInBounds]; exact h4
  · show (cell.slots.setIfInBounds i x).size.toInt32 = _
    rw [Array.size_setIfInBounds]; exact h5
  · show (cell.slots.setIfInBounds i x)[k]? = some (if k = i then x else f k)
    by_cases e : k = i
    · subst e
      rw [if_pos rfl, Array.getElem?_setIfInBounds_self_of_lt (by omega)]
    · rw [if_neg e, Array.getElem?_setIfInBounds_ne (Ne.symm e)]; exact h6 k hk
theorem r_iast (hx : p.tables.exec = Jvm.exec) (hb : c.code = cc) (hS : St D s H locs) {f : Nat → Int32} (hA : aI D q n f H) (hq : dB D ≤ q) (i : Nat) (hj : IX j n i) {x : Int32} (hdg : decode cc pc = .ok (.iastore, 1))
    (k : ∀ (H' : Heap) (locs' : List Loc), St D s H' locs' → Off (fun a => a = q) H H' → aI D q n (va_up f i x) H' → W p l e R s m args below meth c H' locs' cells slots Q (F0 m (pc + 1) ls rest)) : W p l e R s m args below meth c H locs cells slots Q (F0 m pc ls (.int x :: .int j :: .ref q :: rest)) := by
  have hA' := hA
  obtain ⟨cell, h1, h2, h3, h4, h5, h6⟩ := hA'
  refine W.iast hx hb h1 (State.isArrayOf_alike hS.1.alike h2.1) h3 (hj.in h4) rfl rfl hdg fun H' e1 e2 e3 => ?_
  rw [hj.cl] at e1
  refine k H' _ (hS.put e2 e3 hq) ⟨Nat.le_of_eq e2.symm, fun a _ ha => e3 a ha⟩ ((hA.set ⟨cell, h1, e1⟩ hj.2.1).congr fun a _ => ?_)
  simp only [va_up]; split <;> rfl
theorem r_dast (hx : p.tables.exec = Jvm.exec) (hb : c.code = cc) (hS : St D s H locs) {f : Nat → UInt64} (hA : aD D q n f H) (hq : dB D ≤ q) (i : Nat) (hj : IX j n i) {x : UInt64} (hdg : decode cc pc = .ok (.dastore, 1))
    (k : ∀ (H' : Heap) (locs' : List Loc), St D s H' locs' → Off (fun a => a = q) H H' → aD D q n (va_up f i x) H' → W p l e R s m args below meth c H' locs' cells slots Q (F0 m (pc + 1) ls rest)) : W p l e R s m args below meth c H locs cells slots Q (F0 m pc ls (.double x :: .int j :: .ref q :: rest)) := by
  have hA' := hA
  obtain ⟨cell, h1, h2, h3, h4, h5, h6⟩ := hA'
  refine W.dast hx hb h1 (State.isArrayOf_alike hS.1.alike h2.1) h3 (hj.in h4) rfl rfl hdg fun H' e1 e2 e3 => ?_
  rw [hj.cl] at e1
  refine k H' _ (hS.put e2 e3 hq) ⟨Nat.le_of_eq e2.symm, fun a _ ha => e3 a ha⟩ ((hA.set ⟨cell, h1, e1⟩ hj.2.1).congr fun a _ => ?_)
  simp only [va_up]; split <;> rfl
end ROWS
