section ROWS2
variable {p : Program} {l : Launch} {e : Env} {R : Room} {s : State} {m : MethodId} {args : Array Value} {below : List Frame} {meth : Method} {c : Code} {H : Heap} {locs : List Loc} {cells slots : Nat} {Q : State → Prop}
variable {cc : ByteArray} {pc : Nat} {ls : Array Slot} {rest : List Value} {D : DD} {q n i : Nat} {j : Int32}
theorem r_bast (hx : p.tables.exec = Jvm.exec) (hb : c.code = cc) (hS : St D s H locs) {f : Nat → Int32} (hA : aB D q n f H) (hq : dB D ≤ q) (i : Nat) (hj : IX j n i) {x : Int32} (hdg : decode cc pc = .ok (.bastore, 1))
    (k : ∀ (H' : Heap) (locs' : List Loc), St D s H' locs' → Off (fun a => a = q) H H' → aB D q n (va_up f i x.toInt8.toInt32) H' → W p l e R s m args below meth c H' locs' cells slots Q (F0 m (pc + 1) ls rest)) : W p l e R s m args below meth c H locs cells slots Q (F0 m pc ls (.int x :: .int j :: .ref q :: rest)) := by
  have hA' := hA
  obtain ⟨cell, h1, h2, h3, h4, h5, h6⟩ := hA'
  refine W.bast hx hb h1 (State.isArrayOf_alike hS.1.alike h2.1) h3 (hj.in h4) rfl rfl hdg fun H' e1 e2 e3 => ?_
  rw [hj.cl, narrow_byte] at e1
  refine k H' _ (hS.put e2 e3 hq) ⟨Nat.le_of_eq e2.symm, fun a _ ha => e3 a ha⟩ ((hA.set ⟨cell, h1, e1⟩ hj.2.1).congr fun a _ => ?_)
  simp only [va_up]; split <;> rfl
theorem r_zast (hx : p.tables.exec = Jvm.exec) (hb : c.code = cc) (hS : St D s H locs) {f : Nat → Int32} (hA : aZ D q n f H) (hq : dB D ≤ q) (i : Nat) (hj : IX j n i) {x : Int32} (hn : narrow .boolean (.int x) = .int x) (hdg : decode cc pc = .ok (.bastore, 1))
    (k : ∀ (H' : Heap) (locs' : List Loc), St D s H' locs' → Off (fun a => a = q) H H' → aZ D q n (va_up f i x) H' → W p l e R s m args below meth c H' locs' cells slots Q (F0 m (pc + 1) ls rest)) : W p l e R s m args below meth c H locs cells slots Q (F0 m pc ls (.int x :: .int j :: .ref q :: rest)) := by
  have hA' := hA
  obtain ⟨cell, h1, h2, h3, h4, h5, h6⟩ := hA'
  refine W.zast hx hb h1 (State.isArrayOf_alike hS.1.alike h2.1) h3 (hj.in h4) rfl rfl hdg fun H' e1 e2 e3 => ?_
  rw [hj.cl, hn] at e1
  refine k H' _ (hS.put e2 e3 hq) ⟨Nat.le_of_eq e2.symm, fun a _ ha => e3 a ha⟩ ((hA.set ⟨cell, h1, e1⟩ hj.2.1).congr fun a _ => ?_)
  simp only [va_up]; split <;> rfl
/-- what is known of class number k, in any state of the run -/
theorem GG.known {U : State} (hG : GG D U H) {k : Nat} {C : String} {T : u_T} {N : Nat} (hc : kCl[k]? = some (C, T, N)) : u_Kn U C T N (dC D k) (dS D k) := u_Kn_moved hG.alike (hG.1.1 k _ hc)
theorem r_get (hx : p.tables.exec = Jvm.exec) (hb : c.code = cc) {own ref C : String} {T : u_T} {N k index : Nat} (hts : ∀ w ∈ lw_all, w.before args s = true) (hown : s.vm.findClass own = some m.cls) (hS : St D s H locs) {fs : List Value} (hO : OA D k q fs H) (hc : kCl[k]? = some (C, T, N)) (hin : ∀ w ∈ u_ws C T N, w ∈ lw_all) (j : Nat) (hj : j < N)
    (hlink : Cond.fieldLink own index ref (T j).2.1 (T j).2.2.1 ∈ lw_all) (hsame : ref = (T j).1) {v : Value} (hv : fs[j]? = some v) (hdg : decode cc pc = .ok (.getfield index, 3))
    (kk : W p l e R s m args below meth c H locs cells slots Q (F0 m (pc + 3) ls (v :: rest))) : W p l e R s m args below meth c H locs cells slots Q (F0 m pc ls (.ref q :: rest)) := by
  obtain ⟨cell, q1, q2, q3, q4, q5⟩ := hO
  obtain ⟨hSl, hfc, kC, hkC, hkind⟩ := hS.1.known hc
  obtain ⟨cf, kf, fi, f, hi, hsl⟩ := hSl j hj
  subst hsame
  refine W.getf hx hb hown (hts _ hlink) hi (u_facts hfc hkC (u_lays hts hin hj) hi).1 q1 q4 (v := v) ?_ rfl rfl hdg kk
  rw [hsl, q5 j (List.getElem?_eq_some_iff.mp hv).1]
  simp [vp_V, hv]
theorem slots_apart {C : String} {T : u_T} {N k : Nat} (hts : ∀ w ∈ lw_all, w.before args s = true) (hin : ∀ w ∈ u_ws C T N, w ∈ lw_all) (ty : Nat → FieldType) (hty : ∀ k, k < N → parseFieldDescriptor (T k).2.2.1 = some (ty k)) (hnm : ∀ a, a < N → ∀ b, b < N → a ≠ b → (T a).2.1 ≠ (T b).2.1) (hG : GG D s H) (hc : kCl[k]? = some (C, T, N)) : ∀ x y, x < N → y < N → x ≠ y → dS D k x ≠ dS D k y := by
  intro x y hx hy hne
  obtain ⟨hS, -⟩ := hG.known hc
  obtain ⟨_, _, _, fa, hia, ea⟩ := hS x hx
  obtain ⟨_, _, _, fb, hib, eb⟩ := hS y hy
  rw [← ea, ← eb]
  refine u_apart (u_lays hts hin hx) (u_lays hts hin hy) hia hib ?_
  rw [(State.fieldFound?_type hia (hty x hx)).1, (State.fieldFound?_type hib (hty y hy)).1]
  exact hnm x hx y hy hne
theorem ON.set {k : Nat} {fs : List Value} {H' : Heap} {v : Value} {N : Nat} (hO : ON D k q fs H) (h : ∃ cell : Cell, H[q]? = some cell ∧ H'[q]? = some (cell.setSlot (dS D k i) v)) (hi : i < fs.length) (hN : fs.length ≤ N) (hap : ∀ x y, x < N → y < N → x ≠ y → dS D k x ≠ dS D k y) : ON D k q (fs.set i v) H' := by
  obtain ⟨cell, h1, h2, h3, h4⟩ := hO
  obtain ⟨cell', e1, e2⟩ := h
  obtain rfl : cell = cell' := Option.some.inj (h1.symm.trans e1)
  refine ⟨_, e2, h2, h3, fun a ha => ?_⟩
  rw [List.length_set] at ha
  show (cell.slots.setIfInBounds (dS D k i) v)[dS D k a]? = some (vp_V (fs.set i v) a)
  by_cases e : a = i
  · subst e
    rw [Array.getElem?_setIfInBounds_self_of_lt (Array.getElem?_eq_some_iff.mp (h4 a hi)).1]
    simp [vp_V, hi]
  · rw [Array.getElem?_setIfInBounds_ne (hap i a (by omega) (by omega) (Ne.symm e)), h4 a ha]
    simp [vp_V, List.getElem?_set_ne (Ne.symm e)]
theorem r_put (hx : p.tables.exec = Jvm.exec) (hb : c.code = cc) {own ref C : String} {T : u_T} {N k index : Nat} (hts : ∀ w ∈ lw_all, w.before args s = true) (hown : s.vm.findClass own = some m.cls) (hS : St D s H locs) {fs : List Value} (hO : ON D k q fs H) (hq : dB D ≤ q) (hc : kCl[k]? = some (C, T, N)) (hin : ∀ w ∈ u_ws C T N, w ∈ lw_all) (ty0 : Nat → FieldType) (hty : ∀ k, k < N → parseFieldDescriptor (T k).2.2.1 = some (ty0 k)) (hnm : ∀ a, a < N → ∀ b, b < N → a ≠ b → (T a).2.1 ≠ (T b).2.1) (j : Nat) (hl : j < fs.length) (hN : fs.length = N)
    (hlink : Cond.fieldLink own index ref (T j).2.1 (T j).2.2.1 ∈ lw_all) (hsame : ref = (T j).1) (hfin : (T j).2.2.2 = false) {v : Value} (hn : narrow (ty0 j) v = v) (hfit : fits (ty0 j) v = true) (hdg : decode cc pc = .ok (.putfield index, 3))
    (kk : ∀ (H' : Heap) (locs' : List Loc), St D s H' locs' → Off (fun a => a = q) H H' → ON D k q (fs.set j v) H' → W p l e R s m args below meth c H' locs' cells slots Q (F0 m (pc + 3) ls rest)) : W p l e R s m args below meth c H locs cells slots Q (F0 m pc ls (v :: .ref q :: rest)) := by
  have hap := slots_apart hts hin ty0 hty hnm hS.1 hc
  have hO' := hO
  obtain ⟨cell, q1, q2, q3, q4⟩ := hO'
  obtain ⟨hSl, hfc, kC, hkC, hkind⟩ := hS.1.known hc
  obtain ⟨cf, kf, fi, f, hi, hsl⟩ := hSl j (hN ▸ hl)
  subst hsame
  have hlay := hts _ (hin _ (u_in_lay (hN ▸ hl)))
  unfold u_lay at hlay
  rw [if_neg (by rw [hfin]; decide)] at hlay
  have hst := (u_facts hfc hkC (u_lays hts hin (hN ▸ hl)) hi).1
  have h6 := u_store hfc hkC hkind hlay hi (hty j (hN ▸ hl)) hn hfit
  refine W.putK hx hb (f := f) ⟨hown, hts _ hlink, ⟨_, _, _, hi⟩, hst⟩ (by rw [q2]; exact h6) q1 q3 (by rw [hsl]; exact k2_hasslot (q4 j hl)) rfl rfl hdg fun H' e1 e2 e3 => ?_
  rw [hsl] at e1 ⊢
  exact kk H' _ (hS.put e2 e3 hq) ⟨Nat.le_of_eq e2.symm, fun a _ ha => e3 a ha⟩ (hO.set ⟨cell, q1, e1⟩ hl (Nat.le_of_eq hN) hap)
theorem r_putF (hx : p.tables.exec = Jvm.exec) (hb : c.code = cc) {own ref C : String} {T : u_T} {N k index : Nat} (hts : ∀ w ∈ lw_all, w.before args s = true) (hown : s.vm.findClass own = some m.cls) (hS : St D s H locs) {fs : List Value} (hO : ON D k q fs H) (hq : dB D ≤ q) (hc : kCl[k]? = some (C, T, N)) (hin : ∀ w ∈ u_ws C T N, w ∈ lw_all) (ty0 : Nat → FieldType) (hty : ∀ k, k < N → parseFieldDescriptor (T k).2.2.1 = some (ty0 k)) (hnm : ∀ a, a < N → ∀ b, b < N → a ≠ b → (T a).2.1 ≠ (T b).2.1) (j : Nat) (hl : j < fs.length) (hN : fs.length = N)
    (hlink : Cond.fieldLink own index ref (T j).2.1 (T j).2.2.1 ∈ lw_all) (hsame : ref = (T j).1) (hfin : (T j).2.2.2 = true) (hin2 : meth.name = "<init>") (hdecl : (T j).1 = own) {v : Value} (hn : narrow (ty0 j) v = v) (hfit : fits (ty0 j) v = true) (hdg : decode cc pc = .ok (.putfield index, 3))
    (kk : ∀ (H' : Heap) (locs' : List Loc), St D s H' locs' → Off (fun a => a = q) H H' → ON D k q (fs.set j v) H' → W p l e R s m args below meth c H' locs' cells slots Q (F0 m (pc + 3) ls rest)) : W p l e R s m args below meth c H locs cells slots Q (F0 m pc ls (v :: .ref q :: rest)) := by
  have hap := slots_apart hts hin ty0 hty hnm hS.1 hc
  have hO' := hO
  obtain ⟨cell, q1, q2, q3, q4⟩ := hO'
  obtain ⟨hSl, hfc, kC, hkC, hkind⟩ := hS.1.known hc
  obtain ⟨cf, kf, fi, f, hi, hsl⟩ := hSl j (hN ▸ hl)
  subst hsame
  have hlay := hts _ (hin _ (u_in_lay (hN ▸ hl)))
  unfold u_lay at hlay
  rw [if_pos hfin] at hlay
  have hst := (u_facts hfc hkC (u_lays hts hin (hN ▸ hl)) hi).1
  have hcf : m.cls = cf := by
    obtain ⟨_, _, c', _, _, _, -, -, hf', -, -, -, hown2, -⟩ := Cond.laysFinal_spec hlay
    have e1 : c' = cf := by have := hi.symm.trans hf'; simp at this; exact this.1.symm
    rw [hdecl] at hown2
    rw [← e1]; exact Option.some.inj (hown.symm.trans hown2)
  have h6 := u_fits hfc hkC hkind (Or.inr hlay) hi (hty j (hN ▸ hl)) hn hfit
  refine W.putFinK hx hb hown (hts _ hlink) hi hst hcf hin2 (by rw [q2]; exact h6) q1 q3 (by rw [hsl]; exact k2_hasslot (q4 j hl)) rfl rfl hdg fun H' e1 e2 e3 => ?_
  rw [hsl] at e1 ⊢
  exact kk H' _ (hS.put e2 e3 hq) ⟨Nat.le_of_eq e2.symm, fun a _ ha => e3 a ha⟩ (hO.set ⟨cell, q1, e1⟩ hl (Nat.le_of_eq hN) hap)
theorem r_new (hx : p.tables.exec = Jvm.exec) (hb : c.code = cc) {own C : String} {T : u_T} {N k index : Nat} (hts : ∀ w ∈ lw_all, w.before args s = true) (hown : s.vm.findClass own = some m.cls) (hS : St D s H locs) (hc : kCl[k]? = some (C, T, N)) (hin : ∀ w ∈ u_ws C T N, w ∈ lw_all) (ty0 : Nat → FieldType) (hty : ∀ k, k < N → parseFieldDescriptor (T k).2.2.1 = some (ty0 k))
    (hcl : Cond.classLink own index C ∈ lw_all) (hinst : Cond.instantiable C N ∈ lw_all) (hini : Cond.initialized C ∈ lw_all) {fs : List Value} (hN : fs.length = N) (hfs : ∀ j, j < N → defaultValue (ty0 j) = vp_V fs j) (hcells : cells + 1 ≤ R.cells) (hslots : slots + N ≤ R.slots) (hdg : decode cc pc = .ok (.new index, 3))
    (kk : ∀ (q : Nat) (H' : Heap), q = H.size → St D s H' locs → Ext H H' → ON D k q fs H' → H'.size = H.size + 1 → dB D ≤ q → W p l e R s m args below meth c H' locs (cells + 1) (slots + N) Q (F0 m (pc + 3) ls (.ref q :: rest))) : W p l e R s m args below meth c H locs cells slots Q (F0 m pc ls rest) := by
  have hKn := hS.1.known hc
  refine W.newcK hx hb hown (hts _ hcl) (hts _ hinst) (hts _ hini) rfl hdg hcells hslots hKn.2.1 rfl fun H1 kC hkC e1 z1 o1 => ?_
  have o : Ext H H1 := ⟨by omega, fun a ha _ => o1 a ha⟩
  have hb' := u_born (o := H.size) (H := H1) ty0 hts hin hKn hkC e1 hty
  refine kk H.size H1 rfl (hS.ext o) o ?_ z1 hS.1.2.2.1
  obtain ⟨cell, c1, c2, c3, c4⟩ := hb'
  exact ⟨cell, c1, c2, c3, fun a ha => (c4 a (hN ▸ ha)).trans (congrArg some (hfs a (hN ▸ ha)))⟩
theorem isArr_back {U : State} {cell : Cell} {ty : FieldType} (h : D.1.vm.Alike U.vm) (ha : U.isArrayOf cell ty) : D.1.isArrayOf cell ty := State.isArrayOf_alike h.symm ha
theorem r_newa (hx : p.tables.exec = Jvm.exec) (hb : c.code = cc) (hts : ∀ w ∈ lw_all, w.before args s = true) (hS : St D s H locs) {atype : ArrayType} {ty : FieldType} (hty : newarray.typeOf atype = ty) (harr : Cond.arrayClass ty ∈ lw_all) (N : Nat) (hN : j = nI N) (hN2 : N ≤ 65536) (hby : componentBytes ty ≤ 8) (hcells : cells + 1 ≤ R.cells) (hslots : slots + N ≤ R.slots) (hdg : decode cc pc = .ok (.newarray atype, 2))
    (kk : ∀ (q : Nat) (H' : Heap), q = H.size → St D s H' locs → Ext H H' → RA D ty q N (fun _ => defaultValue ty) H' → H'.size = H.size + 1 → dB D ≤ q → W p l e R s m args below meth c H' locs (cells + 1) (slots + N) Q (F0 m (pc + 2) ls (.ref q :: rest))) : W p l e R s m args below meth c H locs cells slots Q (F0 m pc ls (.int j :: rest)) := by
  subst hty
  subst hN
  refine va_newaK hx hb (hts _ harr) rfl hdg rfl (nI_pos (by omega)) (nI_clamp (by omega)) (Nat.le_trans (Nat.mul_le_mul hN2 hby) (by decide)) hcells hslots rfl fun H1 cA e1 z1 o1 hAr hNm => ?_
  have o : Ext H H1 := ⟨by omega, fun a ha _ => o1 a ha⟩
  exact kk H.size H1 rfl (hS.ext o) o ⟨_, e1, ⟨isArr_back hS.1.alike (hAr N _), fun eb _ => by rw [eb] at hNm; rw [hS.1.alike.findClass] at hNm; exact hNm⟩, (fun z => by cases z), by rw [arrV_size]; exact Nat.le_refl _, by rw [arrV_size]; rfl, fun a ha => arrV_read _ _ ha⟩ z1 hS.1.2.2.1
theorem r_gets (hx : p.tables.exec = Jvm.exec) (hb : c.code = cc) {own C nm d : String} {index : Nat} {v : Value} (hts : ∀ w ∈ lw_all, w.before args s = true) (hown : s.vm.findClass own = some m.cls) (hS : St D s H locs) (i : Nat) (hv : (stV D)[i]? = some (C, nm, d, v)) (hlink : Cond.fieldLink own index C nm d ∈ lw_all) (hdg : decode cc pc = .ok (.getstatic index, 3))
    (kk : W p l e R s m args below meth c H locs cells slots Q (F0 m (pc + 3) ls (v :: rest))) : W p l e R s m args below meth c H locs cells slots Q (F0 m pc ls rest) := by
  have hZ := va_Z.moved hS.1.alike (hS.1.1.2.2.1 _ (List.mem_of_getElem? hv))
  obtain ⟨cf, kf, fi, f, a, cell, h1, h2, h3, h4, h5, h6, h7, h8⟩ := hZ
  exact W.gets hx hb hown (hts _ hlink) h1 h2 h3 h4 (by rw [hS.1.2.2.2 a (Array.getElem?_eq_some_iff.mp h5).1]; exact h5) (fun e => by rw [e] at h6; cases h6) h7 rfl hdg kk
/-! ends -/
theorem tq_end {Post : Heap → Option Value → Heap → Prop} {r : Option Value} (hS : St D s H locs) (hp : Post s.heap r H) : ∀ t : State, t.heap = H → s.WarmedH t.vm → TQ D Post args s (.returned r) t := by
  intro t ht _
  subst ht
  exact ⟨r, rfl, hp, hS.2.1, hS.1.2.2.2⟩
variable {Post : Heap → Option Value → Heap → Prop} {mc ms : Nat}
theorem r_iret (hx : p.tables.exec = Jvm.exec) (hb : c.code = cc) (hr : meth.sig.returnType = some .int) (hlk : meth.locks = false) (hS : St D s H locs) {v : Int32} (h1 : cells ≤ mc) (h2 : slots ≤ ms) (hdg : decode cc pc = .ok (.ireturn, 1)) (hp : Post s.heap (some (.int v)) H) :
    W p l e R s m args below meth c H locs cells slots (MQ below (TQ D Post) args s mc ms (fun q => dB D ≤ q)) (F0 m pc ls [.int v]) :=
  W.widen h1 h2 (W.iret hx hb hr (tq_end hS hp) hS.2.2 hdg hlk)
theorem r_zret (hx : p.tables.exec = Jvm.exec) (hb : c.code = cc) {ty : FieldType} (hr : meth.sig.returnType = some ty) (hlk : meth.locks = false) (hS : St D s H locs) {v : Int32} (hn : narrow ty (.int v) = .int v) (h1 : cells ≤ mc) (h2 : slots ≤ ms) (hdg : decode cc pc = .ok (.ireturn, 1)) (hp : Post s.heap (some (.int v)) H) :
    W p l e R s m args below meth c H locs cells slots (MQ below (TQ D Post) args s mc ms (fun q => dB D ≤ q)) (F0 m pc ls [.int v]) :=
  W.widen h1 h2 (W.zret hx hb hr hn (tq_end hS hp) hS.2.2 hdg hlk)
theorem r_lret (hx : p.tables.exec = Jvm.exec) (hb : c.code = cc) (hr : meth.sig.returnType = some .long) (hlk : meth.locks = false) (hS : St D s H locs) {v : Int64} (h1 : cells ≤ mc) (h2 : slots ≤ ms) (hdg : decode cc pc = .ok (.lreturn, 1)) (hp : Post s.heap (some (.long v)) H) :
    W p l e R s m args below meth c H locs cells slots (MQ below (TQ D Post) args s mc ms (fun q => dB D ≤ q)) (F0 m pc ls [.long v]) :=
  W.widen h1 h2 (W.lret hx hb hr (tq_end hS hp) hS.2.2 hdg hlk)
theorem r_dret (hx : p.tables.exec = Jvm.exec) (hb : c.code = cc) (hr : meth.sig.returnType = some .double) (hlk : meth.locks = false) (hS : St D s H locs) {v : UInt64} (h1 : cells ≤ mc) (h2 : slots ≤ ms) (hdg : decode cc pc = .ok (.dreturn, 1)) (hp : Post s.heap (some (.double v)) H) :
    W p l e R s m args below meth c H locs cells slots (MQ below (TQ D Post) args s mc ms (fun q => dB D ≤ q)) (F0 m pc ls [.double v]) :=
  W.widen h1 h2 (W.dret hx hb hr (tq_end hS hp) hS.2.2 hdg hlk)
theorem r_vret (hx : p.tables.exec = Jvm.exec) (hb : c.code = cc) (hr : meth.sig.returnType = none) (hlk : meth.locks = false) (hS : St D s H locs) (h1 : cells ≤ mc) (h2 : slots ≤ ms) (hdg : decode cc pc = .ok (.return_, 1)) (hp : Post s.heap none H) :
    W p l e R s m args below meth c H locs cells slots (MQ below (TQ D Post) args s mc ms (fun q => dB D ≤ q)) (F0 m pc ls []) :=
  W.widen h1 h2 (W.vret hx hb hr (tq_end hS hp) hS.2.2 hdg hlk)
theorem r_aret (hx : p.tables.exec = Jvm.exec) (hb : c.code = cc) {rt : FieldType} (hr : meth.sig.returnType = some rt) (hrt : (∃ n, rt = .object n) ∨ ∃ t, rt = .array t) (hlk : meth.locks = false) (hS : St D s H locs) {v : Nat} (h1 : cells ≤ mc) (h2 : slots ≤ ms) (hdg : decode cc pc = .ok (.areturn, 1)) (hp : Post s.heap (some (.ref v)) H) :
    W p l e R s m args below meth c H locs cells slots (MQ below (TQ D Post) args s mc ms (fun q => dB D ≤ q)) (F0 m pc ls [.ref v]) :=
  W.widen h1 h2 (W.aret hx hb hr hrt (Or.inr ⟨v, rfl⟩) (tq_end hS hp) hS.2.2 hdg hlk)
theorem p_iret (hx : p.tables.exec = Jvm.exec) (hb : c.code = cc) (hr : meth.sig.returnType = some .int) (hlk : meth.locks = false) {v v' : Int32} (hdg : decode cc pc = .ok (.ireturn, 1)) (hv : v = v') :
    W p l e R s m args below meth c s.heap [] 0 0 (MQ below (PQ (some (.int v'))) args s 0 0 (fun _ => False)) (F0 m pc ls [.int v]) :=
  W.iret hx hb hr (fun _ ht _ => ⟨by rw [hv], ht⟩) (fun _ h => by cases h) hdg hlk
theorem p_zret (hx : p.tables.exec = Jvm.exec) (hb : c.code = cc) {ty : FieldType} (hr : meth.sig.returnType = some ty) (hlk : meth.locks = false) {v v' : Int32} (hn : narrow ty (.int v) = .int v) (hdg : decode cc pc = .ok (.ireturn, 1)) (hv : v = v') :
    W p l e R s m args below meth c s.heap [] 0 0 (MQ below (PQ (some (.int v'))) args s 0 0 (fun _ => False)) (F0 m pc ls [.int v]) :=
  W.zret hx hb hr hn (fun _ ht _ => ⟨by rw [hv], ht⟩) (fun _ h => by cases h) hdg hlk
theorem p_lret (hx : p.tables.exec = Jvm.exec) (hb : c.code = cc) (hr : meth.sig.returnType = some .long) (hlk : meth.locks = false) {v v' : Int64} (hdg : decode cc pc = .ok (.lreturn, 1)) (hv : v = v') :
    W p l e R s m args below meth c s.heap [] 0 0 (MQ below (PQ (some (.long v'))) args s 0 0 (fun _ => False)) (F0 m pc ls [.long v]) :=
  W.lret hx hb hr (fun _ ht _ => ⟨by rw [hv], ht⟩) (fun _ h => by cases h) hdg hlk
theorem p_dret (hx : p.tables.exec = Jvm.exec) (hb : c.code = cc) (hr : meth.sig.returnType = some .double) (hlk : meth.locks = false) {v v' : UInt64} (hdg : decode cc pc = .ok (.dreturn, 1)) (hv : v = v') :
    W p l e R s m args below meth c s.heap [] 0 0 (MQ below (PQ (some (.double v'))) args s 0 0 (fun _ => False)) (F0 m pc ls [.double v]) :=
  W.dret hx hb hr (fun _ ht _ => ⟨by rw [hv], ht⟩) (fun _ h => by cases h) hdg hlk
theorem p_vret (hx : p.tables.exec = Jvm.exec) (hb : c.code = cc) (hr : meth.sig.returnType = none) (hlk : meth.locks = false) (hdg : decode cc pc = .ok (.return_, 1)) :
    W p l e R s m args below meth c s.heap [] 0 0 (MQ below (PQ none) args s 0 0 (fun _ => False)) (F0 m pc ls []) :=
  W.vret hx hb hr (fun _ ht _ => ⟨rfl, ht⟩) (fun _ h => by cases h) hdg hlk
theorem p_aret (hx : p.tables.exec = Jvm.exec) (hb : c.code = cc) {rt : FieldType} (hr : meth.sig.returnType = some rt) (hrt : (∃ n, rt = .object n) ∨ ∃ t, rt = .array t) (hlk : meth.locks = false) {v v' : Nat} (hdg : decode cc pc = .ok (.areturn, 1)) (hv : v = v') :
    W p l e R s m args below meth c s.heap [] 0 0 (MQ below (PQ (some (.ref v'))) args s 0 0 (fun _ => False)) (F0 m pc ls [.ref v]) :=
  W.aret hx hb hr hrt (Or.inr ⟨v, rfl⟩) (fun _ ht _ => ⟨by rw [hv], ht⟩) (fun _ h => by cases h) hdg hlk
end ROWS2
section CALLS
variable {p : Program} {l : Launch} {e : Env} {R : Room} {s : State} {m : MethodId} {args : Array Value} {below : List Frame} {meth : Method} {c : Code} {H : Heap} {locs : List Loc} {cells slots : Nat} {Q : State → Prop}
variable {cc bytes : ByteArray} {pc index maxL nL : Nat} {ls : Array Slot} {rest As st0 : List Value} {D : DD} {y : MethodName} {ret ret0 : Option FieldType} {fr lo mc ms : Nat} {Pre : Heap → Prop} {Qc : Array Value → State → Outcome → State → Prop} {free : Addr → Prop} {own : String} {y0 : MethodName}
/-- a method's own name and descriptor, for its callers -/
def Hd (y : MethodName) (n : Nat) : Prop := y.cls ≠ "java/lang/invoke/MethodHandle" ∧ y.cls ≠ "java/lang/invoke/VarHandle" ∧ (parseMethodDescriptor y.desc).map (fun d => d.parameters.length) = some n
theorem tp_of (hS : St D s H locs) (hp : Pre H) : ∀ U : State, U.heap = H → s.WarmedH U.vm → TP D As Pre As.toArray U := fun U hU hW => ⟨rfl, by rw [hU]; exact hS.1.warm hW, by rw [hU]; exact hp⟩
theorem r_runS (hC : Cx p s m args meth c y0 cc nL ret0) (n : Nat) (hM : Met l y (ws_ y bytes maxL ret) { frames := fr, cells := mc, slots := ms, locals := lo } (TP D As Pre) Qc mc ms free) (h1 : Cond.methodLink y0.cls index y ∈ lw_all) (h2 : Cond.static y ∈ lw_all) (h3 : Cond.initialized y.cls ∈ lw_all) (h4 : Cond.code y bytes maxL ret ∈ lw_all)
    (hd : Hd y n) (hn : As.length = n) (hR : fr + 1 ≤ R.frames ∧ 8 + (maxL + 11) + lo ≤ R.locals) (hS : St D s H locs) (hp : Pre H) (hl : ls.size = nL) (hst : st0 = As.reverse ++ rest) (hW : (rest.map fun v => v.category).sum ≤ 8) (hdg : decode cc pc = .ok (.invokestatic index, 3)) (hf : cells + mc ≤ R.cells ∧ slots + ms ≤ R.slots) :
    va_Run p l e R s m args below meth c H locs cells slots mc ms (F0 m pc ls st0) rest (Qc As.toArray) free :=
  va_runS (Ts := lw_all) (own := y0.cls) ⟨hC.1, hC.2.1, hC.2.2.2.2.1, hC.2.2.2.2.2.1, hC.2.2.2.2.2.2.1⟩ hM (va_cwS n hC.2.2.2.2.2.2.1 (lw_S h1 h2 h3 h4) rfl rfl rfl hd hR) ⟨TP.blind, tp_of hS hp⟩ rfl hn hl hst (lv_room hW) hdg hf
theorem r_runSN (hC : Cx p s m args meth c y0 cc nL ret0) (n : Nat) (hM : Met l y (ws_ y bytes maxL ret) { frames := fr, cells := mc, slots := ms, locals := lo } (TP D As Pre) Qc mc ms free) {host : String} (h1 : Cond.methodLinkNest y0.cls index y host ∈ lw_tbl) (h2 : Cond.static y ∈ lw_all) (h3 : Cond.initialized y.cls ∈ lw_all) (h4 : Cond.code y bytes maxL ret ∈ lw_all)
    (hd : Hd y n) (hn : As.length = n) (hR : fr + 1 ≤ R.frames ∧ 8 + (maxL + 11) + lo ≤ R.locals) (hS : St D s H locs) (hp : Pre H) (hl : ls.size = nL) (hst : st0 = As.reverse ++ rest) (hW : (rest.map fun v => v.category).sum ≤ 8) (hdg : decode cc pc = .ok (.invokestatic index, 3)) (hf : cells + mc ≤ R.cells ∧ slots + ms ≤ R.slots) :
    va_Run p l e R s m args below meth c H locs cells slots mc ms (F0 m pc ls st0) rest (Qc As.toArray) free := by
  obtain ⟨A, hA⟩ := hS.1.1.2.1
  have hts := hC.2.2.2.2.2.2.1
  exact va_runSN (Ts := lw_all) (own := y0.cls) ⟨hC.1, hC.2.1, hC.2.2.2.2.1, hC.2.2.2.2.2.1, hts⟩ hM ⟨va_cnB n hts (lw_meth h4) rfl rfl rfl (va_Nw.warmM hS.1.2.1 (va_Nw.of rfl (hA _ h1))) (hts _ h3) hd hR, hts _ h2, trivial⟩ ⟨TP.blind, tp_of hS hp⟩ rfl hn hl hst (lv_room hW) hdg hf
theorem r_runI (hC : Cx p s m args meth c y0 cc nL ret0) (n : Nat) {b : Nat} (hM : Met l y (ws_ y bytes maxL none) { frames := fr, cells := mc, slots := ms, locals := lo } (TP D (.ref b :: As) Pre) Qc mc ms free) (h1 : Cond.methodLink y0.cls index y ∈ lw_all) (h2 : Cond.instanceMethod y ∈ lw_all) (h3 : Cond.initialized y.cls ∈ lw_all) (h4 : Cond.code y bytes maxL none ∈ lw_all) (hy : y.name = "<init>")
    (hd : Hd y n) (hn : As.length = n) (hR : fr + 1 ≤ R.frames ∧ 8 + (maxL + 11) + lo ≤ R.locals) (hS : St D s H locs) (hp : Pre H) (hl : ls.size = nL) (hst : st0 = As.reverse ++ .ref b :: rest) (hW : (rest.map fun v => v.category).sum ≤ 8) (hdg : decode cc pc = .ok (.invokespecial index, 3)) (hf : cells + mc ≤ R.cells ∧ slots + ms ≤ R.slots) :
    va_Run p l e R s m args below meth c H locs cells slots mc ms (F0 m pc ls st0) rest (Qc (Value.ref b :: As).toArray) free := by
  have hts := hC.2.2.2.2.2.2.1
  exact va_runI (Ts := lw_all) (own := y0.cls) ⟨hC.1, hC.2.1, hC.2.2.2.2.1, hC.2.2.2.2.2.1, hts⟩ hM (cwI n hts (lw_meth h4) rfl rfl rfl (hts _ h3) (hts _ h1) (hts _ h2) hy hd hR) ⟨TP.blind, tp_of hS hp⟩ rfl hn hl hst (lv_room hW) hdg hf
theorem OA.recv {k b : Nat} {fs : List Value} (hS : St D s H locs) (hO : OA D k b fs H) {C : String} {T : u_T} {N : Nat} (hc : kCl[k]? = some (C, T, N)) : ∃ cellB : Cell, H[b]? = some cellB ∧ cellB.vm.isStatics = false ∧ s.vm.findClass C = some cellB.cls := by
  obtain ⟨cell, q1, q2, q3, -⟩ := hO
  exact ⟨cell, q1, q3, by rw [q2]; exact (hS.1.known hc).2.1⟩
theorem r_runV (hC : Cx p s m args meth c y0 cc nL ret0) (n : Nat) {b : Nat} (hM : Met l y (ws_ y bytes maxL ret) { frames := fr, cells := mc, slots := ms, locals := lo } (TP D (.ref b :: As) Pre) Qc mc ms free) (h1 : Cond.methodLink y0.cls index y ∈ lw_all) (h2 : Cond.instanceMethod y ∈ lw_all) (h5 : Cond.selects y.cls y y ∈ lw_all) (h3 : Cond.initialized y.cls ∈ lw_all) (h4 : Cond.code y bytes maxL ret ∈ lw_all)
    (hrecv : ∃ cellB : Cell, H[b]? = some cellB ∧ cellB.vm.isStatics = false ∧ s.vm.findClass y.cls = some cellB.cls)
    (hd : Hd y n) (hn : As.length = n) (hR : fr + 1 ≤ R.frames ∧ 8 + (maxL + 11) + lo ≤ R.locals) (hS : St D s H locs) (hp : Pre H) (hl : ls.size = nL) (hst : st0 = As.reverse ++ .ref b :: rest) (hW : (rest.map fun v => v.category).sum ≤ 8) (hdg : decode cc pc = .ok (.invokevirtual index, 3)) (hf : cells + mc ≤ R.cells ∧ slots + ms ≤ R.slots) :
    va_Run p l e R s m args below meth c H locs cells slots mc ms (F0 m pc ls st0) rest (Qc (Value.ref b :: As).toArray) free := by
  have hts := hC.2.2.2.2.2.2.1
  exact va_runV (Ts := lw_all) (own := y0.cls) (C := y.cls) ⟨hC.1, hC.2.1, hC.2.2.2.2.1, hC.2.2.2.2.2.1, hts⟩ hM (cwV n hts (lw_V h1 h2 h5 h3 h4) rfl rfl rfl ⟨rfl, hd⟩ hR) ⟨TP.blind, hrecv, tp_of hS hp⟩ rfl hn hl hst (lv_room hW) hdg hf
variable {P1 : Heap → Prop}
theorem run_split {mc ms : Nat} {g : JFrame} {Post : Heap → Option Value → Heap → Prop} {a : Array Value} (hr : va_Run p l e R s m args below meth c H locs cells slots mc ms g rest (TQ D Post a) (fun q => dB D ≤ q)) (hS : St D s H locs)
    (kk : ∀ (v : Option Value) (H' : Heap) (locs' : List Loc), Post H v H' → St D s H' locs' → H.size ≤ H'.size → W p l e R s m args below meth c H' locs' (cells + mc) (slots + ms) Q { g with pc := g.pc + 3, stack := v.toList ++ rest }) : W p l e R s m args below meth c H locs cells slots Q g := by
  intro T hT X
  obtain ⟨v, st₀, t, T', L, h0, X', hL, e1, e2, ⟨r, hv, hp, hz, hk⟩, st⟩ := hr T hT X
  cases hv
  rw [h0] at hz hp
  have hS' : St D s T'.heap (locs ++ L) := ⟨⟨hS.1.1, hS.1.2.1, by rw [e1]; exact Nat.le_trans hS.1.2.2.1 hz, fun q hq => by rw [e1]; exact hk q hq⟩, by rw [e1]; exact Nat.le_trans hS.2.1 hz, fun q hq => by
    rcases List.mem_append.mp hq with h | h
    · exact hS.2.2 q h
    · exact hL q h⟩
  obtain ⟨t2, a1, b1⟩ := kk v T'.heap (locs ++ L) (by rw [e1]; exact hp) hS' (by rw [e1]; exact hz) T' rfl X'
  exact ⟨t2, st t2 a1, b1⟩
variable {a : Array Value}
theorem r_ci {P : Heap → Int32 → Heap → Prop} (hr : va_Run p l e R s m args below meth c H locs cells slots mc ms (F0 m pc ls st0) rest (TQ D (pI P) a) (fun q => dB D ≤ q)) (hS : St D s H locs)
    (kk : ∀ (b : Int32) (H' : Heap) (locs' : List Loc), P H b H' → St D s H' locs' → H.size ≤ H'.size → W p l e R s m args below meth c H' locs' (cells + mc) (slots + ms) Q (F0 m (pc + 3) ls (.int b :: rest))) : W p l e R s m args below meth c H locs cells slots Q (F0 m pc ls st0) :=
  run_split hr hS fun v H' locs' hp hS' hz => by obtain ⟨b, rfl, hp⟩ := hp; exact kk b H' locs' hp hS' hz
theorem r_cz {P : Heap → Bool → Heap → Prop} (hr : va_Run p l e R s m args below meth c H locs cells slots mc ms (F0 m pc ls st0) rest (TQ D (pZ P) a) (fun q => dB D ≤ q)) (hS : St D s H locs)
    (kk : ∀ (b : Bool) (H' : Heap) (locs' : List Loc), P H b H' → St D s H' locs' → H.size ≤ H'.size → W p l e R s m args below meth c H' locs' (cells + mc) (slots + ms) Q (F0 m (pc + 3) ls (.int (bI b) :: rest))) : W p l e R s m args below meth c H locs cells slots Q (F0 m pc ls st0) :=
  run_split hr hS fun v H' locs' hp hS' hz => by obtain ⟨b, rfl, hp⟩ := hp; exact kk b H' locs' hp hS' hz
theorem r_cl {P : Heap → Int64 → Heap → Prop} (hr : va_Run p l e R s m args below meth c H locs cells slots mc ms (F0 m pc ls st0) rest (TQ D (pL P) a) (fun q => dB D ≤ q)) (hS : St D s H locs)
    (kk : ∀ (b : Int64) (H' : Heap) (locs' : List Loc), P H b H' → St D s H' locs' → H.size ≤ H'.size → W p l e R s m args below meth c H' locs' (cells + mc) (slots + ms) Q (F0 m (pc + 3) ls (.long b :: rest))) : W p l e R s m args below meth c H locs cells slots Q (F0 m pc ls st0) :=
  run_split hr hS fun v H' locs' hp hS' hz => by obtain ⟨b, rfl, hp⟩ := hp; exact kk b H' locs' hp hS' hz
theorem r_cd {P : Heap → UInt64 → Heap → Prop} (hr : va_Run p l e R s m args below meth c H locs cells slots mc ms (F0 m pc ls st0) rest (TQ D (pD P) a) (fun q => dB D ≤ q)) (hS : St D s H locs)
    (kk : ∀ (b : UInt64) (H' : Heap) (locs' : List Loc), P H b H' → St D s H' locs' → H.size ≤ H'.size → W p l e R s m args below meth c H' locs' (cells + mc) (slots + ms) Q (F0 m (pc + 3) ls (.double b :: rest))) : W p l e R s m args below meth c H locs cells slots Q (F0 m pc ls st0) :=
  run_split hr hS fun v H' locs' hp hS' hz => by obtain ⟨b, rfl, hp⟩ := hp; exact kk b H' locs' hp hS' hz
theorem r_cr {P : Heap → Nat → Heap → Prop} (hr : va_Run p l e R s m args below meth c H locs cells slots mc ms (F0 m pc ls st0) rest (TQ D (pR P) a) (fun q => dB D ≤ q)) (hS : St D s H locs)
    (kk : ∀ (b : Nat) (H' : Heap) (locs' : List Loc), P H b H' → St D s H' locs' → H.size ≤ H'.size → W p l e R s m args below meth c H' locs' (cells + mc) (slots + ms) Q (F0 m (pc + 3) ls (.ref b :: rest))) : W p l e R s m args below meth c H locs cells slots Q (F0 m pc ls st0) :=
  run_split hr hS fun v H' locs' hp hS' hz => by obtain ⟨b, rfl, hp⟩ := hp; exact kk b H' locs' hp hS' hz
theorem r_cv {P : Heap → Heap → Prop} (hr : va_Run p l e R s m args below meth c H locs cells slots mc ms (F0 m pc ls st0) rest (TQ D (pV P) a) (fun q => dB D ≤ q)) (hS : St D s H locs)
    (kk : ∀ (H' : Heap) (locs' : List Loc), P H H' → St D s H' locs' → H.size ≤ H'.size → W p l e R s m args below meth c H' locs' (cells + mc) (slots + ms) Q (F0 m (pc + 3) ls rest)) : W p l e R s m args below meth c H locs cells slots Q (F0 m pc ls st0) :=
  run_split hr hS fun v H' locs' hp hS' hz => by obtain ⟨rfl, hp⟩ := hp; exact kk H' locs' hp hS' hz
/-- a pure call: it answers r, nothing else is changed -/
theorem r_cp {r : Value} (hr : va_Run p l e R s m args below meth c H locs cells slots 0 0 (F0 m pc ls st0) rest (PQ (some r) a) (fun _ => False))
    (kk : W p l e R s m args below meth c H locs cells slots Q (F0 m (pc + 3) ls (r :: rest))) : W p l e R s m args below meth c H locs cells slots Q (F0 m pc ls st0) := by
  intro T hT X
  obtain ⟨v, st₀, t, T', L, h0, X', hL, e1, e2, ⟨hv, hh⟩, st⟩ := hr T hT X
  cases hv
  obtain ⟨t2, a1, b1⟩ := kk T' (by rw [e1, hh, h0]) (Stand.forget X' (fun q h => (hL q h).elim))
  exact ⟨t2, st t2 a1, b1⟩
theorem r_cpv (hr : va_Run p l e R s m args below meth c H locs cells slots 0 0 (F0 m pc ls st0) rest (PQ none a) (fun _ => False))
    (kk : W p l e R s m args below meth c H locs cells slots Q (F0 m (pc + 3) ls rest)) : W p l e R s m args below meth c H locs cells slots Q (F0 m pc ls st0) := by
  intro T hT X
  obtain ⟨v, st₀, t, T', L, h0, X', hL, e1, e2, ⟨hv, hh⟩, st⟩ := hr T hT X
  cases hv
  obtain ⟨t2, a1, b1⟩ := kk T' (by rw [e1, hh, h0]) (Stand.forget X' (fun q h => (hL q h).elim))
  exact ⟨t2, st t2 a1, b1⟩
theorem r_oinit (hC : Cx p s m args meth c y0 cc nL ret0) {b : Nat} (h1 : Cond.methodLink y0.cls index Lib.objectInit ∈ lw_all) (h2 : Cond.instanceMethod Lib.objectInit ∈ lw_all) (h3 : Cond.code Lib.objectInit ⟨#[0xb1]⟩ 1 none ∈ lw_all) (hl : ls.size = nL) (hdg : decode cc pc = .ok (.invokespecial index, 3)) (hR : 1 ≤ R.frames ∧ (rest.map fun v => v.category).sum + 12 ≤ R.locals)
    (kk : W p l e R s m args below meth c H locs cells slots Q (F0 m (pc + 3) ls rest)) : W p l e R s m args below meth c H locs cells slots Q (F0 m pc ls (.ref b :: rest)) := by
  have hts := hC.2.2.2.2.2.2.1
  exact W.objInit hC.1 hC.2.1 hC.2.2.2.2.2.1 (hts _ h1) (hts _ h2) (hts _ h3) rfl (by rw [hC.2.2.2.2.1]; exact hl) rfl hdg hR.1 (by show 2 * 0 + _ + 12 ≤ _; omega) (W.eq rfl kk)
theorem r_d2l (hC : Cx p s m args meth c y0 cc nL ret0) {x : UInt64} (h1 : Cond.methodLink y0.cls index ⟨"java/lang/Double", "doubleToRawLongBits", "(D)J"⟩ ∈ lw_all) (h2 : Cond.native ⟨"java/lang/Double", "doubleToRawLongBits", "(D)J"⟩ ∈ lw_all) (h3 : Cond.static ⟨"java/lang/Double", "doubleToRawLongBits", "(D)J"⟩ ∈ lw_all) (h4 : Cond.initialized "java/lang/Double" ∈ lw_all) (hl : ls.size = nL) (hR : 1 ≤ R.frames ∧ (rest.map fun v => v.category).sum + 15 ≤ R.locals) (hdg : decode cc pc = .ok (.invokestatic index, 3))
    (kk : W p l e R s m args below meth c H locs cells slots Q (F0 m (pc + 3) ls (.long x.toInt64 :: rest))) : W p l e R s m args below meth c H locs cells slots Q (F0 m pc ls (.double x :: rest)) := by
  have hts := hC.2.2.2.2.2.2.1
  exact vn_d2l hC.1 hC.2.1 (hC.2.2.2.2.1.trans hl.symm) hC.2.2.2.2.2.1 (hts _ h1) (hts _ h2) (hts _ h3) (hts _ h4) hR.1 hR.2 hdg kk
theorem r_l2d (hC : Cx p s m args meth c y0 cc nL ret0) {x : Int64} (h1 : Cond.methodLink y0.cls index ⟨"java/lang/Double", "longBitsToDouble", "(J)D"⟩ ∈ lw_all) (h2 : Cond.native ⟨"java/lang/Double", "longBitsToDouble", "(J)D"⟩ ∈ lw_all) (h3 : Cond.static ⟨"java/lang/Double", "longBitsToDouble", "(J)D"⟩ ∈ lw_all) (h4 : Cond.initialized "java/lang/Double" ∈ lw_all) (hv : vn_snl2d x = false) (hl : ls.size = nL) (hR : 1 ≤ R.frames ∧ (rest.map fun v => v.category).sum + 15 ≤ R.locals) (hdg : decode cc pc = .ok (.invokestatic index, 3))
    (kk : W p l e R s m args below meth c H locs cells slots Q (F0 m (pc + 3) ls (.double x.toUInt64 :: rest))) : W p l e R s m args below meth c H locs cells slots Q (F0 m pc ls (.long x :: rest)) := by
  have hts := hC.2.2.2.2.2.2.1
  exact vn_l2d hC.1 hC.2.1 (hC.2.2.2.2.1.trans hl.symm) hC.2.2.2.2.2.1 (hts _ h1) (hts _ h2) (hts _ h3) (hts _ h4) hv hR.1 hR.2 hdg kk
end CALLS
