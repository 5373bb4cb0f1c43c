set_option maxRecDepth 100000
/-! ROWS for the system's side: the standing world (tables' words, statics), new objects and arrays, references in arrays, interface and nest mates' calls -/
set_option maxRecDepth 100000
/-- the words of the tables that are carried -/
def twk : Cond → Bool
  | .castable .. => true
  | .fieldLinkNest .. => true
  | .methodLinkNest .. => true
  | .declares _ => true
  | _ => false
def TW (U : State) : Prop := (∀ w ∈ lw_tbl, twk w = true → va_Nw w U) ∧ va_AO "java/lang/Object" U ∧ va_AO "java/lang/String" U ∧ (Cond.arrayOver (.array .int)).before #[] U = true
theorem TW.alike {s U : State} (ha : s.vm.Alike U.vm) (h : (Cond.arrayOver (.array .int)).before #[] s = true) : (Cond.arrayOver (.array .int)).before #[] U = true := over_moved ha h
theorem TW.moved {s U : State} (hW : s.WarmedH U.vm) (h : TW s) : TW U := by
  refine ⟨fun w hw hk => ?_, va_AO.moved hW.alike h.2.1, va_AO.moved hW.alike h.2.2.1, TW.alike hW.alike h.2.2.2⟩
  have hz := h.1 w hw hk
  cases w <;> first | (cases hk; done) | exact va_Nw.warmC hW hz | exact va_Nw.warmF hW hz | exact va_Nw.warmM hW hz | exact va_Nw.warmD hW hz
theorem TW.same {s U : State} (hv : s.vm = U.vm) (h : TW s) : TW U := by
  have ha : s.vm.Alike U.vm := by rw [hv]; exact Vm.Alike.refl U.vm
  refine ⟨fun w hw hk => ?_, va_AO.moved ha h.2.1, va_AO.moved ha h.2.2.1, TW.alike ha h.2.2.2⟩
  have hz := h.1 w hw hk
  cases w <;> first | (cases hk; done) | exact va_Nw.same rfl hv hz
theorem TW.word {U : State} (h : TW U) {w : Cond} (hw : w ∈ lw_tbl) (hk : twk w = true) : va_Nw w U := h.1 w hw hk
/-- a class's card: its place, fields' table, words and types -/
def CC (ci : Nat) (C : String) (T : u_T) (N : Nat) (ty : Nat → FieldType) : Prop := clA[ci]? = some (C, T, N) ∧ (∀ w ∈ u_ws C T N, w ∈ lw_all) ∧ (∀ k, k < N → parseFieldDescriptor (T k).2.2.1 = some (ty k)) ∧ ∀ a, a < N → ∀ b, b < N → a ≠ b → (T a).2.1 ≠ (T b).2.1
theorem Sx.st {A : Nat → Prop} {s : State} {H : Heap} {locs : List Loc} {b0 : Nat} (h : Sx A s H locs) (hA : ∀ q, A q → b0 ≤ q) (hb : b0 ≤ s.heap.size) : va_S (fun q => b0 ≤ q) s.heap H locs :=
  ⟨h.1, fun q h1 h2 => h.2.1 q h1 (fun z => h2 (z.elim (hA q) (fun w => Nat.le_trans hb w))), fun x hx => (h.2.2 x hx).elim (hA _) (fun w => Nat.le_trans hb w)⟩
theorem va_at.old {A : Nat → Prop} {s : State} {H : Heap} {locs : List Loc} {D : va_G} {cl : List vw_C} {q : Nat × va_E} (h : va_at D cl q s.heap) (hS : Sx A s H locs) (hA : ¬ A q.1) : va_at D cl q H := h.kept (hS.old h.lt hA)
section RX
variable {p : Program} {l : Launch} {e : Env} {R : Room} {s : State} {m : MethodId} {a : Array Value} {below : List Frame} {meth : Method} {c : Code} {H : Heap} {locs : List Loc} {cells slots : Nat} {Q : State → Prop}
variable {cc : ByteArray} {pc nL : Nat} {ls : Array Slot} {rest : List Value} {own : String} {D : va_G} {dA : Nat → ClassId} {ad : Nat} {A : Nat → Prop}
variable {ci N index : Nat} {C ref : String} {T : u_T} {ty : Nat → FieldType} {fs fs' : List Value}
theorem x_get (S : CallFix p m c cc nL s a lw_all own) (hc : CC ci C T N ty) (hat : va_at D clA (ad, .inr (ci, fs)) H) (hK : Kn D dA s) (k : Nat) (hk : k < N) (hlink : Cond.fieldLink own index ref (T k).2.1 (T k).2.2.1 ∈ lw_all) (hsame : ∀ x, s.fieldFound? (T k).1 (T k).2.1 (T k).2.2.1 = some x → s.fieldFound? ref (T k).2.1 (T k).2.2.1 = some x) {v : Value} (hv : fs[k]? = some v) (hdg : decode cc pc = .ok (.getfield index, 3))
    (kk : W p l e R s m a below meth c H locs cells slots Q (F0 m (pc + 3) ls (v :: rest))) : W p l e R s m a below meth c H locs cells slots Q (F0 m pc ls (.ref ad :: rest)) :=
  r_get S hat hK hc.2.1 hc.1 k hk hlink hsame hv hdg kk
theorem x_getN (S : CallFix p m c cc nL s a lw_all own) (hc : CC ci C T N ty) (hat : va_at D clA (ad, .inr (ci, fs)) H) (hK : Kn D dA s) (hT : TW s) {host : String} (k : Nat) (hk : k < N) (hlink : Cond.fieldLinkNest own index ref (T k).2.1 (T k).2.2.1 host ∈ lw_tbl) (hsame : ∀ x, s.fieldFound? (T k).1 (T k).2.1 (T k).2.2.1 = some x → s.fieldFound? ref (T k).2.1 (T k).2.2.1 = some x) {v : Value} (hv : fs[k]? = some v) (hdg : decode cc pc = .ok (.getfield index, 3))
    (kk : W p l e R s m a below meth c H locs cells slots Q (F0 m (pc + 3) ls (v :: rest))) : W p l e R s m a below meth c H locs cells slots Q (F0 m pc ls (.ref ad :: rest)) :=
  va_getN (D := D) (cl := clA) (tys := tyA dA) (ws := [(ad, .inr (ci, fs))]) S.1 S.2.1 S.2.2.2.2 hc.2.1 S.2.2.2.1 hK (at_P hat) 0 rfl hc.1 k hk (va_Nw.use (A := a) rfl (hT.word hlink rfl)) hsame hv hdg kk
theorem x_put (S : CallFix p m c cc nL s a lw_all own) (hc : CC ci C T N ty) (hat : va_at D clA (ad, .inr (ci, fs)) H) (hK : Kn D dA s) (k : Nat) (hk : k < N) (hlink : Cond.fieldLink own index ref (T k).2.1 (T k).2.2.1 ∈ lw_all) (hsame : ∀ x, s.fieldFound? (T k).1 (T k).2.1 (T k).2.2.1 = some x → s.fieldFound? ref (T k).2.1 (T k).2.2.1 = some x) (hfin : (T k).2.2.2 = false) {v : Value} (hn : narrow (ty k) v = v) (hfit : fits (ty k) v = true) (hl : k < fs.length) (hfs : fs.set k v = fs') (hdg : decode cc pc = .ok (.putfield index, 3)) (hS : Sx A s H locs) (hA : A ad ∨ s.heap.size ≤ ad)
    (kk : ∀ (H1 : Heap) (locs1 : List Loc), va_at D clA (ad, .inr (ci, fs')) H1 → H1.size = H.size → (∀ q, q ≠ ad → H1[q]? = H[q]?) → Sx A s H1 locs1 → W p l e R s m a below meth c H1 locs1 cells slots Q (F0 m (pc + 3) ls rest)) : W p l e R s m a below meth c H locs cells slots Q (F0 m pc ls (v :: .ref ad :: rest)) :=
  r_put S hat hK hc.2.1 ty hc.2.2.1 hc.2.2.2 hc.1 k hk hlink hsame hfin hn hfit hl hfs hdg hS hA kk
theorem x_putF (S : CallFix p m c cc nL s a lw_all own) (hc : CC ci C T N ty) (hat : va_at D clA (ad, .inr (ci, fs)) H) (hK : Kn D dA s) (k : Nat) (hk : k < N) (hlink : Cond.fieldLink own index ref (T k).2.1 (T k).2.2.1 ∈ lw_all) (hsame : ∀ x, s.fieldFound? (T k).1 (T k).2.1 (T k).2.2.1 = some x → s.fieldFound? ref (T k).2.1 (T k).2.2.1 = some x) (hfin : (T k).2.2.2 = true) (hin2 : meth.name = "<init>") (hdecl : (T k).1 = own) {v : Value} (hn : narrow (ty k) v = v) (hfit : fits (ty k) v = true) (hl : k < fs.length) (hfs : fs.set k v = fs') (hdg : decode cc pc = .ok (.putfield index, 3)) (hS : Sx A s H locs) (hA : A ad ∨ s.heap.size ≤ ad)
    (kk : ∀ (H1 : Heap) (locs1 : List Loc), va_at D clA (ad, .inr (ci, fs')) H1 → H1.size = H.size → (∀ q, q ≠ ad → H1[q]? = H[q]?) → Sx A s H1 locs1 → W p l e R s m a below meth c H1 locs1 cells slots Q (F0 m (pc + 3) ls rest)) : W p l e R s m a below meth c H locs cells slots Q (F0 m pc ls (v :: .ref ad :: rest)) :=
  r_putF S hat hK hc.2.1 ty hc.2.2.1 hc.2.2.2 hc.1 k hk hlink hsame hfin hin2 hdecl hn hfit hl hfs hdg hS hA kk
theorem x_new (S : CallFix p m c cc nL s a lw_all own) (hc : CC ci C T N ty) (hK : Kn D dA s) (hcl : Cond.classLink own index C ∈ lw_all) (hinst : Cond.instantiable C N ∈ lw_all) (hini : Cond.initialized C ∈ lw_all) (hfs : ∀ j, j < N → defaultValue (ty j) = vp_V fs j) (hcells : cells + 1 ≤ R.cells) (hslots : slots + N ≤ R.slots) (hdg : decode cc pc = .ok (.new index, 3)) (hS : Sx A s H locs)
    (kk : ∀ (q : Nat) (H1 : Heap), va_at D clA (q, .inr (ci, fs)) H1 → H.size ≤ q → H.size ≤ H1.size → (∀ x, x < H.size → H1[x]? = H[x]?) → Sx A s H1 locs → W p l e R s m a below meth c H1 locs (cells + 1) (slots + N) Q (F0 m (pc + 3) ls (.ref q :: rest))) : W p l e R s m a below meth c H locs cells slots Q (F0 m pc ls rest) := by
  have hKn := hK.1 ci _ hc.1
  refine W.newcK S.1 S.2.1 S.2.2.2.1 (S.2.2.2.2 _ hcl) (S.2.2.2.2 _ hinst) (S.2.2.2.2 _ hini) rfl hdg hcells hslots hKn.2.1 rfl fun H1 kC hkC e1 z1 o1 => ?_
  exact kk H.size H1 ⟨_, hc.1, (u_born ty S.2.2.2.2 hc.2.1 hKn hkC e1 hc.2.2.1).to hfs⟩ (Nat.le_refl _) (by omega) o1 (hS.new (by omega) o1)
/-- a new array of numbers -/
theorem x_newa (S : CallFix p m c cc nL s a lw_all own) (hK : Kn D dA s) {atype : ArrayType} (t0 : Nat) {ty : FieldType} (hty : newarray.typeOf atype = ty) (ht : (tyA dA)[t0]? = some (dA t0, ty)) (harr : Cond.arrayClass ty ∈ lw_all) {n : Nat} {a0 : vp_A} (ha : ∀ cA : ClassId, vp_cell cA a0 = arrV cA n (fun _ => defaultValue ty)) (hn : n < 2 ^ 31) (hbytes : n * componentBytes ty ≤ 536870912) (hcells : cells + 1 ≤ R.cells) (hslots : slots + n ≤ R.slots) (hdg : decode cc pc = .ok (.newarray atype, 2)) (hS : Sx A s H locs)
    (kk : ∀ (q : Nat) (H1 : Heap), va_at D clA (q, .inl (dA t0, a0)) H1 → H.size ≤ q → H.size ≤ H1.size → (∀ x, x < H.size → H1[x]? = H[x]?) → Sx A s H1 locs → W p l e R s m a below meth c H1 locs (cells + 1) (slots + n) Q (F0 m (pc + 2) ls (.ref q :: rest))) : W p l e R s m a below meth c H locs cells slots Q (F0 m pc ls (.int (nI n) :: rest)) := by
  subst hty
  refine va_newaK S.1 S.2.1 (S.2.2.2.2 _ harr) rfl hdg rfl (nI_pos hn) (nI_clamp hn) hbytes hcells hslots rfl fun H1 cA e1 z1 o1 hAr hNm => ?_
  have hc : cA = dA t0 := by
    have h2 := (hK.2 t0 _ ht).2
    cases atype <;> exact Option.some.inj (hNm.symm.trans h2)
  subst hc
  exact kk H.size H1 (by show H1[H.size]? = some (vp_cell _ _); rw [ha]; exact e1) (Nat.le_refl _) (by omega) o1 (hS.new (by omega) o1)
/-- a new array of references -/
theorem x_newq (S : CallFix p m c cc nL s a lw_all own) (hK : Kn D dA s) {C : String} (hover : va_AO C s) (t0 : Nat) (ht : (tyA dA)[t0]? = some (dA t0, .object C)) (hcl : Cond.classLink own index C ∈ lw_all) {n : Nat} (hn : n < 2 ^ 31) (hbytes : n * 4 ≤ 536870912) (hcells : cells + 1 ≤ R.cells) (hslots : slots + n ≤ R.slots) (hdg : decode cc pc = .ok (.anewarray index, 3)) (hS : Sx A s H locs)
    (kk : ∀ (q : Nat) (H1 : Heap), va_at D clA (q, .inl (dA t0, n, .inr (.inr (.inr (.inr (fun _ => none)))))) H1 → H.size ≤ q → H.size ≤ H1.size → (∀ x, x < H.size → H1[x]? = H[x]?) → Sx A s H1 locs → W p l e R s m a below meth c H1 locs (cells + 1) (slots + n) Q (F0 m (pc + 3) ls (.ref q :: rest))) : W p l e R s m a below meth c H locs cells slots Q (F0 m pc ls (.int (nI n) :: rest)) := by
  have hz := nI_clamp hn
  refine W.anew S.1 S.2.1 S.2.2.2.1 (S.2.2.2.2 _ hcl) (va_AO.use hover) rfl hdg rfl (nI_pos hn) (by rw [hz]; exact hbytes) hcells (by rw [hz]; exact hslots) fun cA kA comp f1 f2 f3 f4 => ?_
  rw [hz]
  generalize hH1 : H.push ({ cls := cA, slots := Array.replicate n .null, vm := .none } : Cell) = H1
  have z1 : H1.size = H.size + 1 := by rw [← hH1, Array.size_push]
  have e1 : H1[H.size]? = some (arrV cA n (fun _ => .null)) := by rw [← hH1, Array.getElem?_push_size, ← arrV_new]
  have o1 : ∀ q : Nat, q < H.size → H1[q]? = H[q]? := fun q hq => by rw [← hH1, Array.getElem?_push, if_neg (Nat.ne_of_lt hq)]
  obtain ⟨kA2, comp2, g1, g2, g3, g4⟩ := (hK.2 t0 _ ht).2
  have hc : cA = dA t0 := Option.some.inj (f1.symm.trans g4)
  subst hc
  exact kk H.size H1 (by show H1[H.size]? = some (vp_cell _ _); rw [vp_cell_q]; exact e1) (Nat.le_refl _) (by omega) o1 (hS.new (by omega) o1)
/-- reading a reference out of an array -/
theorem x_aald (S : CallFix p m c cc nL s a lw_all own) {n : Nat} {f : Nat → Option Nat} (t0 : Nat) {ty : FieldType} (hat : va_at D clA (ad, .inl (dA t0, n, .inr (.inr (.inr (.inr f))))) H) (hK : Kn D dA s) (ht : (tyA dA)[t0]? = some (dA t0, ty)) (href : ty.isReference = true) {i : Nat} (hi : i < n) (hn : n < 2 ^ 31) {v : Value} (hv : va_rf (f i) = v) (hdg : decode cc pc = .ok (.aaload, 1))
    (kk : W p l e R s m a below meth c H locs cells slots Q (F0 m (pc + 1) ls (v :: rest))) : W p l e R s m a below meth c H locs cells slots Q (F0 m pc ls (.int (nI i) :: .ref ad :: rest)) := by
  have hz := nI_clamp (Nat.lt_trans hi hn)
  exact W.aald (v := v) (ty := ty) S.1 S.2.1 hat ((hK.2 t0 _ ht).1 n (fun j => va_rf (f j))) href (fun q => by cases q) (by show ¬ (nI i < 0 ∨ (arrV _ _ _).slots.size ≤ _); rw [arrV_size]; exact vp_in_nI hi hn) (by show (arrV _ _ _).slots[_]? = _; rw [hz, arrV_read _ _ hi, hv]) rfl rfl hdg kk
theorem x_astN (S : CallFix p m c cc nL s a lw_all own) {n : Nat} {f : Nat → Option Nat} (t0 : Nat) {nm : String} (hat : va_at D clA (ad, .inl (dA t0, n, .inr (.inr (.inr (.inr f))))) H) (hK : Kn D dA s) (ht : (tyA dA)[t0]? = some (dA t0, .object nm)) {i : Nat} (hi : i < n) (hn : n < 2 ^ 31) (hdg : decode cc pc = .ok (.aastore, 1)) (hS : Sx A s H locs) (hA : A ad ∨ s.heap.size ≤ ad)
    (kk : ∀ (H1 : Heap) (locs1 : List Loc), va_at D clA (ad, .inl (dA t0, n, .inr (.inr (.inr (.inr (va_up f i none)))))) H1 → H1.size = H.size → (∀ q, q ≠ ad → H1[q]? = H[q]?) → Sx A s H1 locs1 → W p l e R s m a below meth c H1 locs1 cells slots Q (F0 m (pc + 1) ls rest)) : W p l e R s m a below meth c H locs cells slots Q (F0 m pc ls (.null :: .int (nI i) :: .ref ad :: rest)) := by
  have hz := nI_clamp (Nat.lt_trans hi hn)
  refine va_WaastN (C := nm) S.1 S.2.1 hat ((hK.2 t0 _ ht).1 n (fun j => va_rf (f j))) (fun h => by cases h) (by show ¬ (nI i < 0 ∨ (arrV _ _ _).slots.size ≤ _); rw [arrV_size]; exact vp_in_nI hi hn) rfl rfl hdg fun H1 e z oq => ?_
  refine kk H1 _ ?_ z oq (hS.put z oq hA)
  show H1[ad]? = some (vp_cell _ _)
  rw [e, vp_cell_q, vp_cell_q, arrV_store, hz]
  congr 2
  funext q
  by_cases hq : q = i
  · subst hq
    simp [updV, va_up, va_rf]
  · simp [updV, va_up, hq]
/-- storing a reference into an array: the value's class fits -/
theorem x_ast (S : CallFix p m c cc nL s a lw_all own) {n v cv : Nat} {r : vw_C} {vs : List Value} {f : Nat → Option Nat} (t0 : Nat) {nm : String} (hat : va_at D clA (ad, .inl (dA t0, n, .inr (.inr (.inr (.inr f))))) H) (hv : va_at D clA (v, .inr (cv, vs)) H) (hK : Kn D dA s) (ht : (tyA dA)[t0]? = some (dA t0, .object nm)) (hc : clA[cv]? = some r) (hfit : r.1 = nm ∨ va_Nw (.castable r.1 nm) s) {i : Nat} (hi : i < n) (hn : n < 2 ^ 31) (hdg : decode cc pc = .ok (.aastore, 1)) (hS : Sx A s H locs) (hA : A ad ∨ s.heap.size ≤ ad)
    (kk : ∀ (H1 : Heap) (locs1 : List Loc), va_at D clA (ad, .inl (dA t0, n, .inr (.inr (.inr (.inr (va_up f i (some v))))))) H1 → H1.size = H.size → (∀ q, q ≠ ad → H1[q]? = H[q]?) → Sx A s H1 locs1 → W p l e R s m a below meth c H1 locs1 cells slots Q (F0 m (pc + 1) ls rest)) : W p l e R s m a below meth c H locs cells slots Q (F0 m pc ls (.ref v :: .int (nI i) :: .ref ad :: rest)) := by
  have hz := nI_clamp (Nat.lt_trans hi hn)
  obtain ⟨r', hr', cellV, g1, g2, g3, -⟩ := hv
  have hcls := (hK.1 cv r hc).2
  obtain ⟨kA, comp, k1, k2, k3, -⟩ := (hK.2 t0 _ ht).2
  obtain ⟨kC, hkC, hkind⟩ := hcls.2
  have has : s.vm.assignable (D.1 cv) comp = true := by
    rcases hfit with h | h
    · have hcomp : comp = D.1 cv := Option.some.inj (k3.symm.trans (by rw [← h]; exact hcls.1))
      rw [hcomp]
      exact va_assign hcls
    · obtain ⟨c0, t1, f1, f2, f3⟩ := Cond.castable_spec (va_Nw.use (A := a) rfl h)
      cases hcls.1.symm.trans f1
      cases k3.symm.trans f2
      exact f3
  obtain ⟨kN, hkN⟩ := Vm.findClass_spec k3
  refine W.aast S.1 S.2.1 hat (fun q h => by cases h) (fun h => by cases h) k1 k2 rfl hkN.1 ⟨nI_pos (Nat.lt_trans hi hn), by show _ < (arrV _ _ _).slots.size; rw [arrV_size, hz]; exact hi⟩ g1 (fun q h => by rw [g3] at h; cases h) (by rw [g2]; exact hkC) (by rw [g2]; exact has) rfl rfl hdg fun H1 e z oq => ?_
  refine kk H1 _ ?_ z oq (hS.put z oq hA)
  show H1[ad]? = some (vp_cell _ _)
  rw [e, vp_cell_q, vp_cell_q, arrV_store, hz]
  congr 2
  funext q
  by_cases hq : q = i
  · subst hq
    simp [updV, va_up, va_rf]
  · simp [updV, va_up, hq]
theorem x_cast (S : CallFix p m c cc nL s a lw_all own) {nm : String} {r : vw_C} (hat : va_at D clA (ad, .inr (ci, fs)) H) (hK : Kn D dA s) (hT : TW s) (hc : clA[ci]? = some r) (hlink : Cond.classLink own index nm ∈ lw_all) (hw : Cond.castable r.1 nm ∈ lw_tbl) (hdg : decode cc pc = .ok (.checkcast index, 3))
    (k : W p l e R s m a below meth c H locs cells slots Q (F0 m (pc + 3) ls (.ref ad :: rest))) : W p l e R s m a below meth c H locs cells slots Q (F0 m pc ls (.ref ad :: rest)) :=
  va_castY S.1 S.2.1 S.2.2.2.1 (S.2.2.2.2 _ hlink) (hT.word hw rfl) (r_recv hat hK hc) hdg k
theorem x_castS (S : CallFix p m c cc nL s a lw_all own) {nm : String} {r : vw_C} (hat : va_at D clA (ad, .inr (ci, fs)) H) (hK : Kn D dA s) (hc : clA[ci]? = some r) (hnm : r.1 = nm) (hlink : Cond.classLink own index nm ∈ lw_all) (hdg : decode cc pc = .ok (.checkcast index, 3))
    (k : W p l e R s m a below meth c H locs cells slots Q (F0 m (pc + 3) ls (.ref ad :: rest))) : W p l e R s m a below meth c H locs cells slots Q (F0 m pc ls (.ref ad :: rest)) := by
  subst hnm
  exact va_castS S.1 S.2.1 S.2.2.2.1 (S.2.2.2.2 _ hlink) (hK.1 ci r hc).2 (r_recv hat hK hc) hdg k
end RX
/-! the standing world of the system's side -/
abbrev Wd : Type := va_G × (Nat → ClassId) × (Nat → Nat) × (Nat → Nat) × (Nat → Nat) × (Nat → Nat) × (Nat → Nat)
abbrev Wd.D (w : Wd) : va_G := w.1
abbrev Wd.dA (w : Wd) : Nat → ClassId := w.2.1
abbrev Wd.b0 (w : Wd) : Nat := w.2.2.1 0
abbrev Wd.cca (w : Wd) : Nat := w.2.2.1 1
abbrev Wd.ica (w : Wd) : Nat := w.2.2.1 2
abbrev Wd.emp (w : Wd) : Nat := w.2.2.1 3
abbrev Wd.ch (w : Wd) : Nat → Nat := w.2.2.2.1
abbrev Wd.ic (w : Wd) : Nat → Nat := w.2.2.2.2.1
abbrev Wd.sg (w : Wd) : Nat → Nat := w.2.2.2.2.2.1
abbrev Wd.sb (w : Wd) : Nat → Nat := w.2.2.2.2.2.2
/-- what is made since the start: nothing that stands lies there -/
def Wd.Ax (w : Wd) (q : Nat) : Prop := w.b0 ≤ q
def sCh (i : Nat) : Nat := [124, 94, 38, 33, 40, 41].getD i 0
def stL (w : Wd) : List (String × String × String × Value) := [("java/lang/Character$CharacterCache", "cache", "[Ljava/lang/Character;", .ref w.cca), ("java/lang/Integer$IntegerCache", "high", "I", .int 127), ("java/lang/Integer$IntegerCache", "cache", "[Ljava/lang/Integer;", .ref w.ica), ("java/lang/String", "COMPACT_STRINGS", "Z", .int 1), ("java/util/BitSet", "$assertionsDisabled", "Z", .int 1), ("java/util/ArrayList", "DEFAULTCAPACITY_EMPTY_ELEMENTDATA", "[Ljava/lang/Object;", .ref w.emp)]
def srL (w : Wd) : List (String × Nat × String × Nat) := [("ConditionWise$Reader", 11, "|", w.sg 0), ("ConditionWise$Reader", 13, "^", w.sg 1), ("ConditionWise$Reader", 15, "&", w.sg 2), ("ConditionWise$Reader", 89, "!", w.sg 3), ("ConditionWise$Reader", 96, "(", w.sg 4), ("ConditionWise$Reader", 98, ")", w.sg 5), ("ConditionWise$Node", 7, "|", w.sg 0), ("ConditionWise$Node", 13, "^", w.sg 1)]
/-- the interfaces' calls: the receiver's class, the method called, the method run -/
def FWl : List (String × MethodName × MethodName) := [("ConditionWise$Letter", ⟨"ConditionWise$Node", "ask", "(LConditionWise$Run;)Z"⟩, yX6_ask), ("ConditionWise$Not", ⟨"ConditionWise$Node", "ask", "(LConditionWise$Run;)Z"⟩, yX5_ask), ("ConditionWise$And", ⟨"ConditionWise$Node", "ask", "(LConditionWise$Run;)Z"⟩, yX10_ask), ("ConditionWise$Or", ⟨"ConditionWise$Node", "ask", "(LConditionWise$Run;)Z"⟩, yX8_ask), ("ConditionWise$Unlike", ⟨"ConditionWise$Node", "ask", "(LConditionWise$Run;)Z"⟩, yX9_ask), ("ConditionWise$Letter", ⟨"ConditionWise$Node", "tell", "(I)Z"⟩, yX6_tell), ("ConditionWise$Not", ⟨"ConditionWise$Node", "tell", "(I)Z"⟩, yX5_tell), ("ConditionWise$And", ⟨"ConditionWise$Node", "tell", "(I)Z"⟩, yX10_tell), ("ConditionWise$Or", ⟨"ConditionWise$Node", "tell", "(I)Z"⟩, yX8_tell), ("ConditionWise$Unlike", ⟨"ConditionWise$Node", "tell", "(I)Z"⟩, yX9_tell), ("ConditionWise$Not", ⟨"ConditionWise$Node", "depth", "()I"⟩, yX5_depth), ("ConditionWise$And", ⟨"ConditionWise$Node", "depth", "()I"⟩, yX10_depth), ("ConditionWise$Or", ⟨"ConditionWise$Node", "depth", "()I"⟩, yX8_depth), ("ConditionWise$Unlike", ⟨"ConditionWise$Node", "depth", "()I"⟩, yX9_depth), ("java/util/ArrayDeque", ⟨"java/util/Deque", "size", "()I"⟩, yJ1_size), ("java/util/ArrayDeque", ⟨"java/util/Deque", "addLast", "(Ljava/lang/Object;)V"⟩, yJ1_addLast), ("java/util/ArrayDeque", ⟨"java/util/Deque", "peekFirst", "()Ljava/lang/Object;"⟩, yJ1_peekFirst), ("java/util/ArrayDeque", ⟨"java/util/Deque", "pollFirst", "()Ljava/lang/Object;"⟩, yJ1_pollFirst), ("java/util/ArrayList", ⟨"java/util/List", "size", "()I"⟩, yJ3_size), ("java/util/ArrayList", ⟨"java/util/List", "add", "(Ljava/lang/Object;)Z"⟩, yJ3_add), ("java/util/ArrayList", ⟨"java/util/List", "get", "(I)Ljava/lang/Object;"⟩, yJ3_get)]
theorem FWl_ok : ∀ t ∈ FWl, t.2.1.cls ≠ "java/lang/invoke/MethodHandle" ∧ t.2.1.cls ≠ "java/lang/invoke/VarHandle" := by decide +kernel
def GX (w : Wd) (U : State) : Prop := (Kn w.D w.dA U) ∧ (TW U) ∧ (w.b0 ≤ U.heap.size) ∧ (∀ t ∈ stL w, va_Z t.1 t.2.1 t.2.2.1 t.2.2.2 w.Ax U U.heap) ∧ (∀ t ∈ srL w, vk_R t.1 t.2.1 t.2.2.1 t.2.2.2 U) ∧ (va_T (.object "java/lang/Character") w.cca 128 (fun j => .ref (w.ch j)) w.Ax U U.heap) ∧ (∀ k, k < 128 → va_O "java/lang/Character" (w.ch k) w.Ax U U.heap) ∧ (va_Ef 128 "java/lang/Character" "value" "C" (fun k => .int (nI k)) w.ch w.Ax U U.heap) ∧ (va_T (.object "java/lang/Integer") w.ica 256 (fun j => .ref (w.ic j)) w.Ax U U.heap) ∧ (vb_C w.ic w.Ax U U.heap) ∧ (va_at w.D clA (w.emp, .inl (w.dA 4, 0, .inr (.inr (.inr (.inr (fun _ => none)))))) U.heap ∧ w.emp < w.b0) ∧ (vk_S 6 [1, 1, 1, 1, 1, 1] [[124], [94], [38], [33], [40], [41]] w.sg w.sb w.Ax U U.heap) ∧ (∀ i, i < 6 → va_OF "java/lang/String" "hash" "I" (.int (nI (sCh i))) (w.sg i) w.Ax U U.heap) ∧ (va_Zq "jdk/internal/util/Preconditions" "SIOOBE_FORMATTER" "Ljava/util/function/BiFunction;" w.Ax U U.heap) ∧ (∀ t ∈ FWl, va_Fw t.1 t.2.1 t.2.2 U)
theorem GX.kn {w : Wd} {U : State} (h : GX w U) : Kn w.D w.dA U := h.1
theorem GX.tw {w : Wd} {U : State} (h : GX w U) : TW U := h.2.1
theorem GX.sz {w : Wd} {U : State} (h : GX w U) : w.b0 ≤ U.heap.size := h.2.2.1
theorem GX.st {w : Wd} {U : State} (h : GX w U) : ∀ t ∈ stL w, va_Z t.1 t.2.1 t.2.2.1 t.2.2.2 w.Ax U U.heap := h.2.2.2.1
theorem GX.sr {w : Wd} {U : State} (h : GX w U) : ∀ t ∈ srL w, vk_R t.1 t.2.1 t.2.2.1 t.2.2.2 U := h.2.2.2.2.1
theorem GX.ccT {w : Wd} {U : State} (h : GX w U) : va_T (.object "java/lang/Character") w.cca 128 (fun j => .ref (w.ch j)) w.Ax U U.heap := h.2.2.2.2.2.1
theorem GX.ccO {w : Wd} {U : State} (h : GX w U) : ∀ k, k < 128 → va_O "java/lang/Character" (w.ch k) w.Ax U U.heap := h.2.2.2.2.2.2.1
theorem GX.ccF {w : Wd} {U : State} (h : GX w U) : va_Ef 128 "java/lang/Character" "value" "C" (fun k => .int (nI k)) w.ch w.Ax U U.heap := h.2.2.2.2.2.2.2.1
theorem GX.icT {w : Wd} {U : State} (h : GX w U) : va_T (.object "java/lang/Integer") w.ica 256 (fun j => .ref (w.ic j)) w.Ax U U.heap := h.2.2.2.2.2.2.2.2.1
theorem GX.icC {w : Wd} {U : State} (h : GX w U) : vb_C w.ic w.Ax U U.heap := h.2.2.2.2.2.2.2.2.2.1
theorem GX.emT {w : Wd} {U : State} (h : GX w U) : va_at w.D clA (w.emp, .inl (w.dA 4, 0, .inr (.inr (.inr (.inr (fun _ => none)))))) U.heap ∧ w.emp < w.b0 := h.2.2.2.2.2.2.2.2.2.2.1
theorem GX.ss {w : Wd} {U : State} (h : GX w U) : vk_S 6 [1, 1, 1, 1, 1, 1] [[124], [94], [38], [33], [40], [41]] w.sg w.sb w.Ax U U.heap := h.2.2.2.2.2.2.2.2.2.2.2.1
theorem GX.sh {w : Wd} {U : State} (h : GX w U) : ∀ i, i < 6 → va_OF "java/lang/String" "hash" "I" (.int (nI (sCh i))) (w.sg i) w.Ax U U.heap := h.2.2.2.2.2.2.2.2.2.2.2.2.1
theorem GX.sf {w : Wd} {U : State} (h : GX w U) : va_Zq "jdk/internal/util/Preconditions" "SIOOBE_FORMATTER" "Ljava/util/function/BiFunction;" w.Ax U U.heap := h.2.2.2.2.2.2.2.2.2.2.2.2.2.1
theorem GX.fw {w : Wd} {U : State} (h : GX w U) : ∀ t ∈ FWl, va_Fw t.1 t.2.1 t.2.2 U := h.2.2.2.2.2.2.2.2.2.2.2.2.2.2
theorem GX.mov {w : Wd} {s U : State} (h : GX w s) (hal : s.vm.Alike U.vm) (htw : TW U) (hsr : ∀ t ∈ srL w, vk_R t.1 t.2.1 t.2.2.1 t.2.2.2 U) (hsz : s.heap.size ≤ U.heap.size) (hq : ∀ a : Nat, a < s.heap.size → ¬ w.Ax a → U.heap[a]? = s.heap[a]?) : GX w U :=
  ⟨va_K.moved hal h.kn, htw, Nat.le_trans h.sz hsz, fun t ht => ((h.st t ht).moved hal).kept hq, hsr, (va_T.moved hal h.ccT).kept hq, fun k hk => (va_O.moved hal (h.ccO k hk)).kept hq, (va_Ef.moved hal h.ccF).kept hq, (va_T.moved hal h.icT).kept hq, (vb_C.moved hal h.icC).kept hq, ⟨h.emT.1.kept (hq _ (Nat.lt_of_lt_of_le h.emT.2 h.sz) (Nat.not_le.mpr h.emT.2)), h.emT.2⟩, (vk_S.moved hal h.ss).kept hq, fun i hi => (va_OF.moved hal (h.sh i hi)).kept hq, (va_Zq.moved hal h.sf).kept hq, fun t ht => va_Fw.moved (FWl_ok t ht) hal (h.fw t ht)⟩
theorem GX.blind (w : Wd) : Blind (GX w) := fun U g mk a h =>
  GX.mov (U := U.calling g mk a) h (Vm.Alike.refl U.vm) (TW.same (s := U) (U := U.calling g mk a) rfl h.tw) (fun t ht => vk_R.same (u := U) (U := U.calling g mk a) rfl (h.sr t ht)) (Nat.le_refl _) (fun _ _ _ => rfl)
theorem GX.at {w : Wd} {A : Nat → Prop} {s : State} {H : Heap} {locs : List Loc} (h : GX w s) (hS : Sx A s H locs) (hA : ∀ q, A q → w.b0 ≤ q) : ∀ U : State, U.heap = H → s.WarmedH U.vm → GX w U := by
  intro U hU hW
  subst hU
  exact GX.mov h hW.alike (TW.moved hW h.tw) (fun t ht => vk_R.warm hW (h.sr t ht)) hS.1 (hS.st hA h.sz).2.1
section RY
variable {p : Program} {l : Launch} {e : Env} {R : Room} {s : State} {m : MethodId} {a : Array Value} {below : List Frame} {meth : Method} {c : Code} {H : Heap} {locs : List Loc} {cells slots : Nat} {Q : State → Prop}
variable {cc : ByteArray} {pc nL : Nat} {ls : Array Slot} {rest : List Value} {own : String} {w : Wd} {A : Nat → Prop} {index : Nat} {ref : String}
theorem x_gets (S : CallFix p m c cc nL s a lw_all own) (hG : GX w s) {t : String × String × String × Value} (i : Nat) (hi : (stL w)[i]? = some t) (hS : Sx A s H locs) (hA : ∀ q, A q → w.b0 ≤ q) (hlink : Cond.fieldLink own index ref t.2.1 t.2.2.1 ∈ lw_all) (hr : t.1 = ref) (hdg : decode cc pc = .ok (.getstatic index, 3))
    (kk : W p l e R s m a below meth c H locs cells slots Q (F0 m (pc + 3) ls (t.2.2.2 :: rest))) : W p l e R s m a below meth c H locs cells slots Q (F0 m pc ls rest) :=
  va_gets S.1 S.2.1 (hG.st t (List.mem_of_getElem? hi)) (hS.st hA hG.sz) S.2.2.2.1 (S.2.2.2.2 _ hlink) (fun x hx => by rw [← hr]; exact hx) hdg kk
theorem x_ldcS (S : CallFix p m c cc nL s a lw_all own) (hG : GX w s) {t : String × Nat × String × Nat} (i : Nat) (hi : (srL w)[i]? = some t) (ho : t.1 = own) (hx : t.2.1 = index) (hdg : decode cc pc = .ok (.ldc index, 2))
    (kk : W p l e R s m a below meth c H locs cells slots Q (F0 m (pc + 2) ls (.ref t.2.2.2 :: rest))) : W p l e R s m a below meth c H locs cells slots Q (F0 m pc ls rest) := by
  subst ho hx
  exact va_ldcS S.1 S.2.1 S.2.2.2.1 (hG.sr t (List.mem_of_getElem? hi)) hdg kk
end RY
theorem kept_of {A' : Nat → Prop} {H H1 : Heap} {D : va_G} {cl : List vw_C} {q : Nat × va_E} (h : va_at D cl q H) (hk : ∀ x : Nat, x < H.size → ¬ A' x → H1[x]? = H[x]?) (hn : ¬ A' q.1) : va_at D cl q H1 := h.kept (hk _ h.lt hn)
theorem at_lt {H : Heap} {D : va_G} {cl : List vw_C} {ad : Nat} {x : va_E} (h : va_at D cl (ad, x) H) : ad < H.size := h.lt
theorem at_nw {H : Heap} {D : va_G} {cl : List vw_C} {ad q : Nat} {x : va_E} (h : va_at D cl (ad, x) H) (hq : H.size ≤ q) : ad ≠ q := Nat.ne_of_lt (Nat.lt_of_lt_of_le h.lt hq)
/-! the cards -/
theorem cc_X1 : CC 0 RX1 TX1 3 tyX1 := ⟨rfl, in_X1, tyX1_ok, nmX1⟩
theorem cc_X2 : CC 1 RX2 TX2 26 tyX2 := ⟨rfl, in_X2, tyX2_ok, nmX2⟩
theorem cc_J1 : CC 2 RJ1 TJ1 3 tyJ1 := ⟨rfl, in_J1, tyJ1_ok, nmJ1⟩
theorem cc_J3 : CC 3 RJ3 TJ3 3 tyJ3 := ⟨rfl, in_J3, tyJ3_ok, nmJ3⟩
theorem cc_J5 : CC 4 RJ5 TJ5 4 tyJ5 := ⟨rfl, in_J5, tyJ5_ok, nmJ5⟩
theorem cc_J14 : CC 5 RJ14 TJ14 3 tyJ14 := ⟨rfl, in_J14, tyJ14_ok, nmJ14⟩
theorem cc_X13 : CC 6 RX13 TX13 4 tyX13 := ⟨rfl, in_X13, tyX13_ok, nmX13⟩
theorem cc_X11 : CC 7 RX11 TX11 3 tyX11 := ⟨rfl, in_X11, tyX11_ok, nmX11⟩
theorem cc_X6 : CC 8 RX6 TX6 2 tyX6 := ⟨rfl, in_X6, tyX6_ok, nmX6⟩
theorem cc_X5 : CC 9 RX5 TX5 1 tyX5 := ⟨rfl, in_X5, tyX5_ok, nmX5⟩
theorem cc_X10 : CC 10 RX10 TX10 2 tyX10 := ⟨rfl, in_X10, tyX10_ok, nmX10⟩
theorem cc_X8 : CC 11 RX8 TX8 2 tyX8 := ⟨rfl, in_X8, tyX8_ok, nmX8⟩
theorem cc_X9 : CC 12 RX9 TX9 2 tyX9 := ⟨rfl, in_X9, tyX9_ok, nmX9⟩
theorem cc_X12 : CC 13 RX12 TX12 3 tyX12 := ⟨rfl, in_X12, tyX12_ok, nmX12⟩
theorem cc_J28 : CC 14 RJ28 TJ28 3 tyJ28 := ⟨rfl, in_J28, tyJ28_ok, nmJ28⟩
theorem cc_X3 : CC 15 RX3 TX3 4 tyX3 := ⟨rfl, in_X3, tyX3_ok, nmX3⟩
theorem cc_X14 : CC 16 RX14 TX14 9 tyX14 := ⟨rfl, in_X14, tyX14_ok, nmX14⟩
theorem cc_X4 : CC 17 RX4 TX4 7 tyX4 := ⟨rfl, in_X4, tyX4_ok, nmX4⟩
theorem cc_J11 : CC 18 RJ11 TJ11 1 tyJ11 := ⟨rfl, in_J11, tyJ11_ok, nmJ11⟩
theorem cc_J21 : CC 19 RJ21 TJ21 1 tyJ21 := ⟨rfl, in_J21, tyJ21_ok, nmJ21⟩
theorem cc_J15 : CC 20 RJ15 TJ15 4 tyJ15 := ⟨rfl, in_J15, tyJ15_ok, nmJ15⟩
section RZ
variable {p : Program} {l : Launch} {e : Env} {R : Room} {s : State} {m : MethodId} {a : Array Value} {below : List Frame} {meth : Method} {c : Code} {H : Heap} {locs : List Loc} {cells slots : Nat} {Q : State → Prop}
variable {cc : ByteArray} {pc nL : Nat} {ls : Array Slot} {rest : List Value} {own : String} {D : va_G} {dA : Nat → ClassId} {ad n : Nat} {A : Nat → Prop}
theorem x_iald (S : CallFix p m c cc nL s a lw_all own) {f : Nat → Nat} (hat : va_at D clA (ad, .inl (dA 0, n, .inl (fun j => nI (f j)))) H) (hK : Kn D dA s) {i : Nat} (hi : i < n) (hn : n < 2 ^ 31) (hdg : decode cc pc = .ok (.iaload, 1))
    (kk : W p l e R s m a below meth c H locs cells slots Q (F0 m (pc + 1) ls (.int (nI (f i)) :: rest))) : W p l e R s m a below meth c H locs cells slots Q (F0 m pc ls (.int (nI i) :: .ref ad :: rest)) := r_iald S hat hK 0 rfl hi hn hdg kk
theorem x_zald (S : CallFix p m c cc nL s a lw_all own) {f : Nat → Bool} (hat : va_at D clA (ad, .inl (dA 1, n, .inl (fun j => nI (f j).toNat))) H) (hK : Kn D dA s) {i : Nat} (hi : i < n) (hn : n < 2 ^ 31) (hdg : decode cc pc = .ok (.baload, 1))
    (kk : W p l e R s m a below meth c H locs cells slots Q (F0 m (pc + 1) ls (.int (nI (f i).toNat) :: rest))) : W p l e R s m a below meth c H locs cells slots Q (F0 m pc ls (.int (nI i) :: .ref ad :: rest)) := r_zald S hat hK 1 rfl hi hn hdg kk
theorem upd_nI (f : Nat → Nat) (i v : Nat) : upd (fun j => nI (f j)) i (nI v) = fun j => nI (va_up f i v j) := by
  funext j
  by_cases h : j = i <;> simp [upd, va_up, h]
theorem upd_bI (f : Nat → Bool) (i : Nat) (v : Bool) : upd (fun j => nI (f j).toNat) i (nI v.toNat) = fun j => nI (va_up f i v j).toNat := by
  funext j
  by_cases h : j = i <;> simp [upd, va_up, h]
theorem x_iast (S : CallFix p m c cc nL s a lw_all own) {f : Nat → Nat} (hat : va_at D clA (ad, .inl (dA 0, n, .inl (fun j => nI (f j)))) H) (hK : Kn D dA s) {i v : Nat} (hi : i < n) (hn : n < 2 ^ 31) (hdg : decode cc pc = .ok (.iastore, 1)) (hS : Sx A s H locs) (hA : A ad ∨ s.heap.size ≤ ad)
    (kk : ∀ (H1 : Heap) (locs1 : List Loc), va_at D clA (ad, .inl (dA 0, n, .inl (fun j => nI (va_up f i v j)))) H1 → H1.size = H.size → (∀ q, q ≠ ad → H1[q]? = H[q]?) → Sx A s H1 locs1 → W p l e R s m a below meth c H1 locs1 cells slots Q (F0 m (pc + 1) ls rest)) : W p l e R s m a below meth c H locs cells slots Q (F0 m pc ls (.int (nI v) :: .int (nI i) :: .ref ad :: rest)) :=
  r_iast S hat hK 0 rfl hi hn hdg hS hA (by rw [upd_nI]; exact kk)
theorem x_zast (S : CallFix p m c cc nL s a lw_all own) {f : Nat → Bool} (hat : va_at D clA (ad, .inl (dA 1, n, .inl (fun j => nI (f j).toNat))) H) (hK : Kn D dA s) {i : Nat} {v : Bool} (hi : i < n) (hn : n < 2 ^ 31) (hdg : decode cc pc = .ok (.bastore, 1)) (hS : Sx A s H locs) (hA : A ad ∨ s.heap.size ≤ ad)
    (kk : ∀ (H1 : Heap) (locs1 : List Loc), va_at D clA (ad, .inl (dA 1, n, .inl (fun j => nI (va_up f i v j).toNat))) H1 → H1.size = H.size → (∀ q, q ≠ ad → H1[q]? = H[q]?) → Sx A s H1 locs1 → W p l e R s m a below meth c H1 locs1 cells slots Q (F0 m (pc + 1) ls rest)) : W p l e R s m a below meth c H locs cells slots Q (F0 m pc ls (.int (nI v.toNat) :: .int (nI i) :: .ref ad :: rest)) :=
  r_zast S hat hK 1 rfl hi hn hdg hS hA (by rw [upd_bI]; exact kk)
theorem x_lald (S : CallFix p m c cc nL s a lw_all own) {f : Nat → Int64} (hat : va_at D clA (ad, .inl (dA 2, n, .inr (.inl f))) H) (hK : Kn D dA s) {i : Nat} (hi : i < n) (hn : n < 2 ^ 31) (hdg : decode cc pc = .ok (.laload, 1))
    (kk : W p l e R s m a below meth c H locs cells slots Q (F0 m (pc + 1) ls (.long (f i) :: rest))) : W p l e R s m a below meth c H locs cells slots Q (F0 m pc ls (.int (nI i) :: .ref ad :: rest)) := by
  have hz := nI_clamp (Nat.lt_trans hi hn)
  exact W.lald (v := .long (f i)) S.1 S.2.1 hat ((hK.2 2 _ rfl).1 n (fun j => .long (f j))) (fun q => by cases q) (by show ¬ (nI i < 0 ∨ (arrV _ _ _).slots.size ≤ _); rw [arrV_size]; exact vp_in_nI hi hn) (by show (arrV _ _ _).slots[_]? = _; rw [hz, arrV_read _ _ hi]) rfl rfl hdg kk
theorem x_last (S : CallFix p m c cc nL s a lw_all own) {f : Nat → Int64} (hat : va_at D clA (ad, .inl (dA 2, n, .inr (.inl f))) H) (hK : Kn D dA s) {i : Nat} {v : Int64} (hi : i < n) (hn : n < 2 ^ 31) (hdg : decode cc pc = .ok (.lastore, 1)) (hS : Sx A s H locs) (hA : A ad ∨ s.heap.size ≤ ad)
    (kk : ∀ (H1 : Heap) (locs1 : List Loc), va_at D clA (ad, .inl (dA 2, n, .inr (.inl (va_up f i v)))) H1 → H1.size = H.size → (∀ q, q ≠ ad → H1[q]? = H[q]?) → Sx A s H1 locs1 → W p l e R s m a below meth c H1 locs1 cells slots Q (F0 m (pc + 1) ls rest)) : W p l e R s m a below meth c H locs cells slots Q (F0 m pc ls (.long v :: .int (nI i) :: .ref ad :: rest)) := by
  have hz := nI_clamp (Nat.lt_trans hi hn)
  refine W.last S.1 S.2.1 hat ((hK.2 2 _ rfl).1 n (fun j => .long (f j))) (fun q => by cases q) (by show ¬ (nI i < 0 ∨ (arrV _ _ _).slots.size ≤ _); rw [arrV_size]; exact vp_in_nI hi hn) rfl rfl hdg fun H1 e z oq => ?_
  refine kk H1 _ ?_ z oq (hS.put z oq hA)
  show H1[ad]? = some (vp_cell _ _)
  rw [e, vp_cell_l, vp_cell_l, arrV_store, hz]
  congr 2
  funext q
  by_cases hq : q = i
  · subst hq
    simp [updV, va_up]
  · simp [updV, va_up, hq]
theorem x_alen (S : CallFix p m c cc nL s a lw_all own) {x : vp_A} (t0 : Nat) {ty : FieldType} (hat : va_at D clA (ad, .inl (dA t0, x)) H) (hK : Kn D dA s) (ht : (tyA dA)[t0]? = some (dA t0, ty)) (hdg : decode cc pc = .ok (.arraylength, 1))
    (kk : W p l e R s m a below meth c H locs cells slots Q (F0 m (pc + 1) ls (.int (nI x.1) :: rest))) : W p l e R s m a below meth c H locs cells slots Q (F0 m pc ls (.ref ad :: rest)) := r_alen S hat hK t0 ht hdg kk
end RZ
section RCF
variable {p : Program} {l : Launch} {e : Env} {R : Room} {s : State} {m : MethodId} {a : Array Value} {below : List Frame} {meth : Method} {c : Code} {H : Heap} {locs : List Loc} {cells slots : Nat} {Q : State → Prop}
variable {cc : ByteArray} {pc nL : Nat} {ls : Array Slot} {rest : List Value} {own : String}
theorem r_after5 {A A' : Nat → Prop} {g : JFrame} {mc ms : Nat} {Post : Heap → Option Value → Heap → Prop} {H : Heap} {aa : Array Value}
    (hr : va_Run5 p l e R s m a below meth c H locs cells slots mc ms g rest ((fun (_ : Array Value) (st : State) (o : Outcome) (t : State) => (∃ v, o = .returned v ∧ Post st.heap v t.heap) ∧ va_F (fun q => A' q ∨ H.size ≤ q) st t) aa) (fun q => A' q ∨ H.size ≤ q)) (hS : Sx A s H locs) (hA : ∀ q, A' q → A q ∨ s.heap.size ≤ q)
    (kk : ∀ (v : Option Value) (H1 : Heap) (locs1 : List Loc), Post H v H1 → H.size ≤ H1.size → (∀ q : Nat, q < H.size → ¬ A' q → H1[q]? = H[q]?) → Sx A s H1 locs1 → W p l e R s m a below meth c H1 locs1 (cells + mc) (slots + ms) Q { g with pc := g.pc + 5, stack := v.toList ++ rest }) : W p l e R s m a below meth c H locs cells slots Q g := by
  intro T hT X
  obtain ⟨v, st₀, t, T', L, h0, X', hL, e1, e2, ⟨⟨v', hv, hp⟩, hz, hk⟩, st⟩ := hr T hT X
  cases hv
  rw [h0] at hz hk hp
  have hA2 : ∀ q, A' q ∨ H.size ≤ q → A q ∨ s.heap.size ≤ q := fun q h => h.elim (hA q) (fun h => Or.inr (Nat.le_trans hS.1 h))
  obtain ⟨t2, a1, b1⟩ := kk v T'.heap (locs ++ L) (by rw [e1]; exact hp) (by rw [e1]; exact hz) (fun q h1 h2 => by rw [e1]; exact hk q h1 (fun z => z.elim h2 (fun w => absurd h1 (Nat.not_lt.mpr w))))
    ⟨Nat.le_trans hS.1 (by rw [e1]; exact hz), fun q h1 h2 => by rw [e1, hk q (Nat.lt_of_lt_of_le h1 hS.1) (fun z => h2 (hA2 q z))]; exact hS.2.1 q h1 h2, fun q hq => by
      rcases List.mem_append.mp hq with h | h
      · exact hS.2.2 q h
      · exact hA2 _ (hL q h)⟩ T' rfl X'
  exact ⟨t2, st t2 a1, b1⟩
/-- a call through an interface, of a receiver whose class is known -/
theorem r_callF (S : CallFix p m c cc nL s a lw_all own) {G : State → Prop} {x y : MethodName} {c2 : ByteArray} {C : String} {cC : ClassId} {b maxL index count : Nat} {ret : Option FieldType} {rm : Room} {As st rest : List Value} {P : Heap → Prop} {Post : Heap → Option Value → Heap → Prop} {A A' : Nat → Prop}
    (hM : Ctr G l y c2 maxL ret rm (.ref b :: As) P Post A') (hat : ClassAt s C cC) (hF : va_Fw C x y s) (hq : GoodIn lw_all (va_wsF own index C x y (ws_ y c2 maxL ret))) (hd : x.cls ≠ "java/lang/invoke/MethodHandle" ∧ x.cls ≠ "java/lang/invoke/VarHandle" ∧ (parseMethodDescriptor x.desc).map (fun d => d.parameters.length) = some As.length) (hR : rm.frames + 1 ≤ R.frames ∧ 8 + (maxL + 11) + rm.locals ≤ R.locals)
    (hrv : ∃ cell : Cell, H[b]? = some cell ∧ cell.vm.isStatics = false ∧ s.vm.findClass C = some cell.cls)
    (hB : Blind G) (hG : ∀ U : State, U.heap = H → s.WarmedH U.vm → G U) (hP : P H) (hls : ls.size = nL) (hst : st = As.reverse ++ .ref b :: rest) (hcat : (rest.map fun v => v.category).sum ≤ 8) (hdg : decode cc pc = .ok (.invokeinterface index count, 5)) (hf : cells + rm.cells ≤ R.cells ∧ slots + rm.slots ≤ R.slots) (hS : Sx A s H locs) (hA : ∀ q, A' q → A q ∨ s.heap.size ≤ q)
    (kk : ∀ (v : Option Value) (H1 : Heap) (locs1 : List Loc), Post H v H1 → H.size ≤ H1.size → (∀ q : Nat, q < H.size → ¬ A' q → H1[q]? = H[q]?) → Sx A s H1 locs1 → W p l e R s m a below meth c H1 locs1 (cells + rm.cells) (slots + rm.slots) Q (F0 m (pc + 5) ls (v.toList ++ rest))) : W p l e R s m a below meth c H locs cells slots Q (F0 m pc ls st) :=
  r_after5 (aa := (Value.ref b :: As).toArray) (va_runF hat S (hM H.size) (va_cwF As.length S.2.2.2.2 hq rfl rfl rfl hF hd hR) ⟨(Blind.fb hB), hrv, fun U hU hW => ⟨rfl, by rw [hU], hG U hU hW, by rw [hU]; exact hP⟩⟩ rfl rfl hls hst (lv_room hcat) hdg hf) hS hA kk
/-- a nest mate's constructor -/
theorem r_callIN (S : CallFix p m c cc nL s a lw_all own) {G : State → Prop} {y : MethodName} {c2 : ByteArray} {host : String} {b maxL index : Nat} {rm : Room} {As st rest : List Value} {P : Heap → Prop} {Post : Heap → Option Value → Heap → Prop} {A A' : Nat → Prop}
    (hM : Ctr G l y c2 maxL none rm (.ref b :: As) P Post A') (hq : GoodIn lw_all (ws_ y c2 maxL none)) (hini : Cond.initialized y.cls ∈ lw_all) (hlk : va_Nw (.methodLinkNest own index y host) s) (hin : Cond.instanceMethod y ∈ lw_all) (hy1 : y.name = "<init>") (hd : y.cls ≠ "java/lang/invoke/MethodHandle" ∧ y.cls ≠ "java/lang/invoke/VarHandle" ∧ (parseMethodDescriptor y.desc).map (fun d => d.parameters.length) = some As.length) (hR : rm.frames + 1 ≤ R.frames ∧ 8 + (maxL + 11) + rm.locals ≤ R.locals)
    (hB : Blind G) (hG : ∀ U : State, U.heap = H → s.WarmedH U.vm → G U) (hP : P H) (hls : ls.size = nL) (hst : st = As.reverse ++ .ref b :: rest) (hcat : (rest.map fun v => v.category).sum ≤ 8) (hdg : decode cc pc = .ok (.invokespecial index, 3)) (hf : cells + rm.cells ≤ R.cells ∧ slots + rm.slots ≤ R.slots) (hS : Sx A s H locs) (hA : ∀ q, A' q → A q ∨ s.heap.size ≤ q)
    (kk : ∀ (v : Option Value) (H1 : Heap) (locs1 : List Loc), Post H v H1 → H.size ≤ H1.size → (∀ q : Nat, q < H.size → ¬ A' q → H1[q]? = H[q]?) → Sx A s H1 locs1 → W p l e R s m a below meth c H1 locs1 (cells + rm.cells) (slots + rm.slots) Q (F0 m (pc + 3) ls (v.toList ++ rest))) : W p l e R s m a below meth c H locs cells slots Q (F0 m pc ls st) :=
  r_after (aa := (Value.ref b :: As).toArray) (va_runIN S (hM H.size) ⟨va_cnB As.length S.2.2.2.2 hq rfl rfl rfl hlk (S.2.2.2.2 _ hini) hd hR, hy1, S.2.2.2.2 _ hin⟩ ⟨(Blind.fb hB), fun U hU hW => ⟨rfl, by rw [hU], hG U hU hW, by rw [hU]; exact hP⟩⟩ rfl rfl hls hst (lv_room hcat) hdg hf) hS hA kk
end RCF
