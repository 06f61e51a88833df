/-! loops with closures; arrays of counted length; System.arraycopy -/
noncomputable def lpS {σ ρ : Type} (ih : σ → Option ρ) (o : Option (Sum σ ρ)) : Option ρ := @Option.rec (Sum σ ρ) (fun _ => Option ρ) none (fun z => @Sum.rec σ ρ (fun _ => Option ρ) ih some z) o
noncomputable def lp {σ ρ : Type} (n : Nat) (F : σ → Option (Sum σ ρ)) : σ → Option ρ := @Nat.rec (fun _ => σ → Option ρ) (fun _ => none) (fun _ ih x => lpS ih (F x)) n
def lpK {σ ρ : Type} (n : Nat) (F : σ → Option (Sum σ ρ)) (out : ρ) : Sum σ ρ → Prop
  | .inl x => lp n F x = some out
  | .inr o => o = out
theorem lp_zero {σ ρ : Type} {F : σ → Option (Sum σ ρ)} {x : σ} {out : ρ} {P : Prop} (h : lp 0 F x = some out) : P := by cases h
theorem lp_step {σ ρ : Type} {n : Nat} {F : σ → Option (Sum σ ρ)} {x : σ} {out : ρ} (h : lp (n + 1) F x = some out) : ∃ z, F x = some z ∧ lpK n F out z := by
  have h2 : lpS (lp n F) (F x) = some out := h
  cases hz : F x with
  | none => rw [hz] at h2; cases h2
  | some z =>
    rw [hz] at h2
    refine ⟨z, rfl, ?_⟩
    cases z with
    | inl y => exact h2
    | inr o => exact Option.some.inj h2
theorem lp_inl {σ ρ : Type} {n : Nat} {F : σ → Option (Sum σ ρ)} {x y : σ} (h : F x = some (.inl y)) : lp (n + 1) F x = lp n F y := by
  show lpS (lp n F) (F x) = _
  rw [h]; rfl
theorem lp_inr {σ ρ : Type} {n : Nat} {F : σ → Option (Sum σ ρ)} {x : σ} {o : ρ} (h : F x = some (.inr o)) : lp (n + 1) F x = some o := by
  show lpS (lp n F) (F x) = _
  rw [h]; rfl
/-- the first answer that there is -/
noncomputable def alt {α β : Type} (o : Option α) (f : α → Option β) (g : Option β) : Option β := @Option.rec α (fun _ => Option β) g f o
theorem alt_step {α β : Type} {o : Option α} {f : α → Option β} {g : Option β} {r : β} (h : alt o f g = some r) : (∃ w, o = some w ∧ f w = some r) ∨ g = some r := by
  cases o with
  | none => exact Or.inr h
  | some w => exact Or.inl ⟨w, rfl, h⟩
/-- a length of at most b -/
noncomputable def gl {β : Type} (b : Nat) (j : Int32) (k : Nat → Option β) : Option β := gd (b + 1) j k
theorem gl_step {β : Type} {b : Nat} {j : Int32} {k : Nat → Option β} {r : β} (hn : b + 1 ≤ 2147483647) (h : gl b j k = some r) : ∃ i : Nat, IX j (b + 1) i ∧ k i = some r := gd_step hn h
theorem le_of_gl {j : Int32} {b i : Nat} (h : IX j (b + 1) i) (hb : b ≤ 1000000) : i ≤ 1000000 := by have := h.2.1; omega
theorem nl0 {n : Nat} (h : n ≤ 1000000) : n ≤ 2147483647 := by omega
theorem nl1 {n : Nat} (h : n ≤ 1000000) : n + 1 ≤ 2147483647 := by omega
section KIT4
variable {p : Program} {l : Launch} {e : Env} {R : Room} {s : State} {m : MethodId} {args : Array Value} {below : List Frame} {meth : Method} {c : Code} {H : Heap} {locs : List Loc} {cells slots : Nat} {Q : State → Prop}
variable {cc bytes : ByteArray} {pc index nL : Nat} {ls : Array Slot} {rest As st0 : List Value} {D : DD} {y : MethodName} {ret ret0 : Option FieldType} {fr lo mc ms : Nat} {Pre : Heap → Prop} {Qc : Array Value → State → Outcome → State → Prop} {free : Addr → Prop} {y0 : MethodName} {j : Int32}
theorem r_newaB (hx : p.tables.exec = Jvm.exec) (hb : c.code = cc) (hts : ∀ w ∈ lw_all, w.before args s = true) (hS : St D s H locs) {atype : ArrayType} {ty : FieldType} (hty : newarray.typeOf atype = ty) (harr : Cond.arrayClass ty ∈ lw_all) (b N : Nat) (hN : IX j (b + 1) N) (hb2 : b ≤ 65536) (hby : componentBytes ty ≤ 8) (hcells : cells + 1 ≤ R.cells) (hslots : slots + b ≤ R.slots) (hdg : decode cc pc = .ok (.newarray atype, 2))
    (kk : ∀ (q : Nat) (H' : Heap), q = H.size → St D s H' locs → Ext H H' → RA D ty q N (fun _ => defaultValue ty) H' → H'.size = H.size + 1 → dB D ≤ q → W p l e R s m args below meth c H' locs (cells + 1) (slots + b) Q (F0 m (pc + 2) ls (.ref q :: rest))) : W p l e R s m args below meth c H locs cells slots Q (F0 m pc ls (.int j :: rest)) := by
  have hle : N ≤ b := by have := hN.2.1; omega
  refine r_newa hx hb hts hS hty harr N hN.1 (by omega) hby hcells (by omega) hdg fun q H' e1 e2 e3 e4 e5 e6 => ?_
  exact W.widen (k := cells + 1) (n := slots + b) (Nat.le_refl _) (by omega) (kk q H' e1 e2 e3 e4 e5 e6)
theorem RA.copied {ty : FieldType} {q0 q1 n0 n1 : Nat} {f g : Nat → Value} {cs cd : Cell} {sp dp n : Nat} {jsp jdp jn : Int32} (f1 : ∀ i, i < n0 → cs.slots[i]? = some (f i)) (g1 : ∀ i, i < n1 → cd.slots[i]? = some (g i)) (hs : n1 ≤ cd.slots.size) (e1 : jsp.toNatClampNeg = sp) (e2 : jdp.toNatClampNeg = dp) (e3 : jn.toNatClampNeg = n) (l0 : sp + n ≤ n0) (l1 : dp + n ≤ n1) :
    ∀ k, k < n1 → (copied cs cd jsp jdp jn).slots[k]? = some (va_cpy f g sp dp n k) := by
  subst e1; subst e2; subst e3
  intro k hk
  show (cd.storeRun jdp.toNatClampNeg (cs.stretch jsp.toNatClampNeg jn.toNatClampNeg)).slots[k]? = _
  have hlen : (cs.stretch jsp.toNatClampNeg jn.toNatClampNeg).length = jn.toNatClampNeg := by simp [Cell.stretch]
  have h := Cell.storePairs_get cd jdp.toNatClampNeg (cs.stretch jsp.toNatClampNeg jn.toNatClampNeg) 0 k (by rw [hlen]; omega)
  show (cd.storePairs jdp.toNatClampNeg ((cs.stretch jsp.toNatClampNeg jn.toNatClampNeg).zipIdx 0)).slots[k]? = _
  rw [h, hlen]
  simp only [Nat.add_zero, va_cpy]
  by_cases hc : jdp.toNatClampNeg ≤ k ∧ k < jdp.toNatClampNeg + jn.toNatClampNeg
  · rw [if_pos hc, if_pos hc]
    have hi : k - jdp.toNatClampNeg < jn.toNatClampNeg := by omega
    simp only [Cell.stretch, List.getElem?_map, List.getElem?_range hi, Option.map_some]
    rw [Array.getD_eq_getD_getElem?, f1 _ (by omega)]
    rfl
  · rw [if_neg hc, if_neg hc]
    exact g1 k hk
theorem r_copy (hC : Cx p s m args meth c y0 cc nL ret0) (hS : St D s H locs) {ty : FieldType} {q0 q1 n0 n1 : Nat} {f g : Nat → Value} (h0 : RA D ty q0 n0 f H) (h1 : RA D ty q1 n1 g H) (hq : dB D ≤ q1) (hprim : refKind ty = false) (hfit : ∀ i, i < n0 → fits ty (f i) = true ∧ ∀ (U : State) (dC : ClassId), U.takes dC (f i)) {sp dp n : Nat} {jsp jdp jn : Int32} (e1 : IX jsp (n0 + 1) sp) (e2 : IX jdp (n1 + 1) dp) (e3 : IX jn (n0 + 1) n) (l0 : sp + n ≤ n0) (l1 : dp + n ≤ n1)
    (k1 : Cond.methodLink y0.cls index arraycopyName ∈ lw_all) (k2 : Cond.native arraycopyName ∈ lw_all) (k3 : Cond.static arraycopyName ∈ lw_all) (k4 : Cond.initialized "java/lang/System" ∈ lw_all) (hl : ls.size = nL) (hR : 1 ≤ R.frames ∧ (rest.map fun v => v.category).sum + 30 ≤ R.locals) (hdg : decode cc pc = .ok (.invokestatic index, 3))
    (kk : ∀ (H' : Heap) (locs' : List Loc), St D s H' locs' → Off (fun a => a = q1) H H' → RA D ty q1 n1 (va_cpy f g sp dp n) H' → W p l e R s m args below meth c H' locs' cells slots Q (F0 m (pc + 3) ls rest)) :
    W p l e R s m args below meth c H locs cells slots Q (F0 m pc ls (.int jn :: .int jdp :: .ref q1 :: .int jsp :: .ref q0 :: rest)) := by
  obtain ⟨hexec, hb, -, -, hml, hown, hts, -⟩ := hC
  obtain ⟨cs, c1, c2, c3, c4, c5, c6⟩ := h0
  have h1' := h1
  obtain ⟨cd, d1, d2, d3, d4, d5, d6⟩ := h1'
  have a2 := State.isArrayOf_alike hS.1.alike c2.1
  have b2 := State.isArrayOf_alike hS.1.alike d2.1
  obtain ⟨a3, ks, a4, cm0, a5⟩ := a2
  obtain ⟨b3, kd, b4, cm1, b5⟩ := b2
  have i1 : jsp.toInt = sp := by rw [e1.1]; exact nI_toInt (by have := e1.2; omega)
  have i2 : jdp.toInt = dp := by rw [e2.1]; exact nI_toInt (by have := e2.2; omega)
  have i3 : jn.toInt = n := by rw [e3.1]; exact nI_toInt (by have := e3.2; omega)
  intro T hT X
  obtain ⟨vm', X', step⟩ := X.arraycopy hexec hown (hts _ k1) (hts _ k2) (hts _ k3) (hts _ k4) (src := q0) (dst := q1) (cs := cs) (cd := cd) (srcPos := jsp) (destPos := jdp) (n := jn) (by rw [hT]; exact c1) (by rw [hT]; exact d1)
    a3 b3 c3 d3 a4 b4 a5 b5 (by simp [hprim]) (by rw [e1.1]; exact nI_pos (by have := e1.2; omega)) (by rw [e2.1]; exact nI_pos (by have := e2.2; omega)) (by rw [e3.1]; exact nI_pos (by have := e3.2; omega))
    (by rw [i1, i3]; omega) (by rw [i2, i3]; omega)
    (fun vm₁ _ i hi => by
      rw [e3.cl] at hi
      rw [e1.cl, Array.getD_eq_getD_getElem?, c6 _ (by omega)]
      exact ⟨(hfit _ (by omega)).1, (hfit _ (by omega)).2 _ _⟩)
    (g := F0 m pc ls (.int jn :: .int jdp :: .ref q1 :: .int jsp :: .ref q0 :: rest)) rfl (by rw [hml]; exact hl) (rest := rest) rfl (by rw [hb]; exact hdg) hR.1 (by
      have hw : nativeFrameWords "java/lang/System" "arraycopy" 5 = 7 := by decide
      show 2 * 0 + (rest.map fun v => v.category).sum + _ ≤ _
      rw [hw]
      have := hR.2
      omega)
  have hl1 : q1 < H.size := (Array.getElem?_eq_some_iff.mp d1).1
  have hheap : ((T.setVm vm').setCell q1 (copied cs cd jsp jdp jn)).heap = H.setIfInBounds q1 (copied cs cd jsp jdp jn) := by rw [← hT]; rfl
  have oq : ∀ q : Nat, q ≠ q1 → (H.setIfInBounds q1 (copied cs cd jsp jdp jn))[q]? = H[q]? := fun q hq => by simp [Array.getElem?_setIfInBounds, Ne.symm hq]
  have sz : (H.setIfInBounds q1 (copied cs cd jsp jdp jn)).size = H.size := by simp
  have hS' : St D s (H.setIfInBounds q1 (copied cs cd jsp jdp jn)) (locs ++ (cs.stretch jsp.toNatClampNeg jn.toNatClampNeg).zipIdx.map fun q => ⟨q1, jdp.toNatClampNeg + q.2⟩) := by
    refine ⟨hS.1.off (A := fun q => q = q1) ⟨by omega, fun q _ hq => oq q hq⟩ (fun q hq => by rw [hq]; exact ‹dB D ≤ q1›), by rw [sz]; exact hS.2.1, fun z hz => ?_⟩
    rcases List.mem_append.mp hz with h | h
    · exact hS.2.2 z h
    · obtain ⟨w, -, hw⟩ := List.mem_map.mp h
      rw [← hw]
      exact ‹dB D ≤ q1›
  obtain ⟨x1, x2, x3, -⟩ := Cell.storeRun_facts cd jdp.toNatClampNeg (cs.stretch jsp.toNatClampNeg jn.toNatClampNeg)
  have x1' : (copied cs cd jsp jdp jn).cls = cd.cls := x1
  have x2' : (copied cs cd jsp jdp jn).vm = cd.vm := x2
  have x3' : (copied cs cd jsp jdp jn).slots.size = cd.slots.size := x3
  obtain ⟨t, t1, t2⟩ := kk _ _ hS' ⟨by omega, fun q _ hq => oq q hq⟩ ⟨copied cs cd jsp jdp jn, by simp [Array.getElem?_setIfInBounds, hl1], ⟨⟨by rw [x2']; exact d2.1.1, by rw [x1']; exact d2.1.2⟩, fun a b => by rw [x1']; exact d2.2 a b⟩, by rw [x2']; exact d3, by rw [x3']; exact d4, by rw [x3']; exact d5, RA.copied (q0 := q0) (q1 := q1) (ty := ty) c6 d6 d4 e1.cl e2.cl e3.cl l0 l1⟩ _ hheap X'
  exact ⟨t, step t t1, t2⟩
theorem r_copyI (hC : Cx p s m args meth c y0 cc nL ret0) (hS : St D s H locs) {q0 q1 n0 n1 : Nat} {f g : Nat → Int32} (h0 : aI D q0 n0 f H) (h1 : aI D q1 n1 g H) (hq : dB D ≤ q1) {sp dp n : Nat} {jsp jdp jn : Int32} (e1 : IX jsp (n0 + 1) sp) (e2 : IX jdp (n1 + 1) dp) (e3 : IX jn (n0 + 1) n) (l0 : sp + n ≤ n0) (l1 : dp + n ≤ n1)
    (k1 : Cond.methodLink y0.cls index arraycopyName ∈ lw_all) (k2 : Cond.native arraycopyName ∈ lw_all) (k3 : Cond.static arraycopyName ∈ lw_all) (k4 : Cond.initialized "java/lang/System" ∈ lw_all) (hl : ls.size = nL) (hR : 1 ≤ R.frames ∧ (rest.map fun v => v.category).sum + 30 ≤ R.locals) (hdg : decode cc pc = .ok (.invokestatic index, 3))
    (kk : ∀ (H' : Heap) (locs' : List Loc), St D s H' locs' → Off (fun a => a = q1) H H' → aI D q1 n1 (va_cpy f g sp dp n) H' → W p l e R s m args below meth c H' locs' cells slots Q (F0 m (pc + 3) ls rest)) :
    W p l e R s m args below meth c H locs cells slots Q (F0 m pc ls (.int jn :: .int jdp :: .ref q1 :: .int jsp :: .ref q0 :: rest)) :=
  r_copy hC hS h0 h1 hq rfl (fun _ _ => ⟨rfl, fun _ _ => trivial⟩) e1 e2 e3 l0 l1 k1 k2 k3 k4 hl hR hdg fun H' locs' a1 a2 a3 => kk H' locs' a1 a2 (a3.congr fun k _ => by
    simp only [va_cpy]
    split <;> rfl)
/-- bytes are bytes -/
def byB (n : Nat) (f : Nat → Int32) : Prop := ∀ i, i < n → fits .byte (.int (f i)) = true
theorem r_copyB (hC : Cx p s m args meth c y0 cc nL ret0) (hS : St D s H locs) {q0 q1 n0 n1 : Nat} {f g : Nat → Int32} (h0 : aB D q0 n0 f H) (h1 : aB D q1 n1 g H) (hq : dB D ≤ q1) (hby : byB n0 f) {sp dp n : Nat} {jsp jdp jn : Int32} (e1 : IX jsp (n0 + 1) sp) (e2 : IX jdp (n1 + 1) dp) (e3 : IX jn (n0 + 1) n) (l0 : sp + n ≤ n0) (l1 : dp + n ≤ n1)
    (k1 : Cond.methodLink y0.cls index arraycopyName ∈ lw_all) (k2 : Cond.native arraycopyName ∈ lw_all) (k3 : Cond.static arraycopyName ∈ lw_all) (k4 : Cond.initialized "java/lang/System" ∈ lw_all) (hl : ls.size = nL) (hR : 1 ≤ R.frames ∧ (rest.map fun v => v.category).sum + 30 ≤ R.locals) (hdg : decode cc pc = .ok (.invokestatic index, 3))
    (kk : ∀ (H' : Heap) (locs' : List Loc), St D s H' locs' → Off (fun a => a = q1) H H' → aB D q1 n1 (va_cpy f g sp dp n) H' → W p l e R s m args below meth c H' locs' cells slots Q (F0 m (pc + 3) ls rest)) :
    W p l e R s m args below meth c H locs cells slots Q (F0 m pc ls (.int jn :: .int jdp :: .ref q1 :: .int jsp :: .ref q0 :: rest)) :=
  r_copy hC hS h0 h1 hq rfl (fun i hi => ⟨hby i hi, fun _ _ => trivial⟩) e1 e2 e3 l0 l1 k1 k2 k3 k4 hl hR hdg fun H' locs' a1 a2 a3 => kk H' locs' a1 a2 (a3.congr fun k _ => by
    simp only [va_cpy]
    split <;> rfl)
end KIT4
theorem al_out {c k n C : Nat} (h : c + k * (n + 1) ≤ C) : c + k ≤ C := by
  rw [Nat.mul_succ] at h
  exact Nat.le_trans (Nat.add_le_add_left (Nat.le_add_left _ _) _) h
theorem al_next {c k n C a : Nat} (h : c + k * (n + 1) ≤ C) (ha : a ≤ k) : c + a + k * n ≤ C := by
  rw [Nat.mul_succ] at h
  rw [Nat.add_assoc, Nat.add_comm a]
  exact Nat.le_trans (Nat.add_le_add_left (Nat.add_le_add_left ha _) _) h
