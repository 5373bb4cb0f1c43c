/-! ROWS: numbers as nI of a natural number, booleans as nI of a Bool's number; contracts (Ctr), calls and ends in one form each -/
set_option maxRecDepth 100000
theorem bt_nI (n i : Nat) : bt (nI n) i = (decide (i < 32) && n.testBit i) := by
  show (BitVec.ofNat 32 n).getLsbD i = _
  rw [BitVec.getLsbD_ofNat]
theorem nI_or (x y : Nat) : nI x ||| nI y = nI (x ||| y) := by
  apply b_ext
  intro i hi
  rw [b_or, bt_nI, bt_nI, bt_nI, Nat.testBit_or]
  simp [hi]
theorem nI_shl {x k : Nat} (hk : k < 32) : nI x <<< (nI k &&& 31) = nI (x <<< k) := by
  apply b_ext
  intro i hi
  rw [b_shl k hk _ hi, bt_nI, bt_nI, Nat.testBit_shiftLeft]
  by_cases h : k ≤ i
  · have : i - k < 32 := by omega
    simp [hi, h, this]
  · simp [h]
theorem nI_shr {x k : Nat} (hx : x < 2 ^ 31) (hk : k < 32) : nI x >>> (nI k &&& 31) = nI (x >>> k) := by
  apply b_ext
  intro i hi
  rw [b_sshr k hk _ hi, bt_nI, bt_nI, bt_nI, Nat.testBit_shiftRight]
  by_cases h : k + i < 32
  · simp [hi, h]
  · have h1 : x.testBit 31 = false := Nat.testBit_lt_two_pow hx
    have h2 : x.testBit (k + i) = false := Nat.testBit_lt_two_pow (Nat.lt_of_lt_of_le hx (Nat.pow_le_pow_right (by omega) (by omega)))
    simp [h, h1, h2]
theorem nI_ushr {x k : Nat} (hx : x < 2 ^ 32) (hk : k < 32) : ((nI x).toUInt32 >>> ((nI k).toUInt32 &&& Int32.toUInt32 31)).toInt32 = nI (x >>> k) := by
  apply b_ext
  intro i hi
  rw [b_ushr k hk, bt_nI, bt_nI, Nat.testBit_shiftRight]
  by_cases h : k + i < 32
  · simp [hi, h]
  · have h2 : x.testBit (k + i) = false := Nat.testBit_lt_two_pow (Nat.lt_of_lt_of_le hx (Nat.pow_le_pow_right (by omega) (by omega)))
    simp [h, h2]
theorem nI_zero_iff {x : Nat} (h : x < 2 ^ 31) : nI x = 0 ↔ x = 0 := by
  constructor
  · intro q
    have a := nI_toInt h
    rw [q, Int32.toInt_zero] at a
    omega
  · rintro rfl; rfl
theorem nI_neg {x : Nat} (h : x < 2 ^ 31) : ¬ nI x < 0 := nI_pos h
theorem nI_m1 {x : Nat} (h : x < 2 ^ 31) : nI x ≠ -1 := by
  intro q
  have a := nI_toInt h
  rw [q] at a
  have : (-1 : Int32).toInt = -1 := by decide
  omega
theorem nar_b (b : Bool) : narrow .boolean (.int (nI b.toNat)) = .int (nI b.toNat) := by cases b <;> decide
theorem fit_b (b : Bool) : fits .boolean (.int (nI b.toNat)) = true := by cases b <;> decide
theorem b_lt (b : Bool) : b.toNat < 2 ^ 31 := by cases b <;> decide
theorem nI_b (b : Bool) : nI b.toNat = 0 ↔ b = false := by cases b <;> decide
theorem nI_bb (b d : Bool) : nI b.toNat = nI d.toNat ↔ b = d := by cases b <;> cases d <;> decide
/-- the bits i < n with f i -/
def bitsTo (f : Nat → Bool) : Nat → Nat
  | 0 => 0
  | n + 1 => bitsTo f n ||| (if f n = true then 1 <<< n else 0)
theorem bitsTo_test (f : Nat → Bool) (n i : Nat) : (bitsTo f n).testBit i = (decide (i < n) && f i) := by
  induction n with
  | zero => simp [bitsTo]
  | succ n ih =>
    rw [bitsTo, Nat.testBit_or, ih]
    by_cases h : f n = true
    · rw [if_pos h, Nat.one_shiftLeft, Nat.testBit_two_pow]
      by_cases h2 : n = i
      · subst h2; simp [h]
      · have : (i < n + 1) ↔ (i < n) := by omega
        simp [h2, this]
    · rw [if_neg h, Nat.zero_testBit]
      have h := eq_false_of_ne_true h
      by_cases h2 : i = n
      · subst h2; simp [h]
      · have : (i < n + 1) ↔ (i < n) := by omega
        simp [this]
theorem bitsTo_lt (f : Nat → Bool) (n : Nat) : bitsTo f n < 2 ^ n := by
  apply Nat.lt_pow_two_of_testBit
  intro i hi
  rw [bitsTo_test, decide_eq_false (by omega)]; rfl
theorem bitsTo_congr {f g : Nat → Bool} {n : Nat} (h : ∀ i, i < n → f i = g i) : bitsTo f n = bitsTo g n := by
  apply Nat.eq_of_testBit_eq
  intro i
  rw [bitsTo_test, bitsTo_test]
  by_cases q : i < n
  · rw [h i q]
  · simp [q]
/-- what a method's frame may change: A of old, and all that is new -/
def Sx (A : Nat → Prop) (s : State) (H : Heap) (locs : List Loc) : Prop := va_S (fun q => A q ∨ s.heap.size ≤ q) s.heap H locs
theorem Sx.rf {A : Nat → Prop} {s : State} : Sx A s s.heap [] := va_S.rf
theorem Sx.le {A : Nat → Prop} {s : State} {H : Heap} {locs : List Loc} (h : Sx A s H locs) : s.heap.size ≤ H.size := h.1
theorem Sx.old {A : Nat → Prop} {s : State} {H : Heap} {locs : List Loc} (h : Sx A s H locs) {q : Nat} (hq : q < s.heap.size) (hA : ¬ A q) : H[q]? = s.heap[q]? :=
  h.2.1 q hq (fun z => z.elim hA (fun w => absurd hq (by omega)))
theorem Sx.put {A : Nat → Prop} {s : State} {H H1 : Heap} {locs : List Loc} {a k : Nat} (h : Sx A s H locs) (z : H1.size = H.size) (oq : ∀ q : Nat, q ≠ a → H1[q]? = H[q]?) (ha : A a ∨ s.heap.size ≤ a) : Sx A s H1 (locs ++ [⟨a, k⟩]) := va_S.put h z oq ha
theorem Sx.new {A : Nat → Prop} {s : State} {H H1 : Heap} {locs : List Loc} (h : Sx A s H locs) (z : H.size ≤ H1.size) (oq : ∀ q : Nat, q < H.size → H1[q]? = H[q]?) : Sx A s H1 locs :=
  ⟨Nat.le_trans h.1 z, fun q h1 h2 => (oq q (Nat.lt_of_lt_of_le h1 h.1)).trans (h.2.1 q h1 h2), h.2.2⟩
/-- a knowledge of the state that a call's frame doesn't touch -/
def Blind (G : State → Prop) : Prop := ∀ (U : State) (g : JFrame) (mk : MethodId) (a : Array Value), G U → G (U.calling g mk a)
/-- the contract: from G and P of the heap, y returns a v with Post (old heap, v, new heap); of old cells only A's change -/
def Ctr (G : State → Prop) (l : Launch) (y : MethodName) (cc : ByteArray) (maxL : Nat) (ret : Option FieldType) (rm : Room) (av : List Value) (P : Heap → Prop) (Post : Heap → Option Value → Heap → Prop) (A : Nat → Prop) : Prop :=
  ∀ sz : Nat, Met l y (ws_ y cc maxL ret) rm (va_Pc av (fun U => U.heap.size = sz ∧ G U ∧ P U.heap)) (fun _ st o t => (∃ v, o = .returned v ∧ Post st.heap v t.heap) ∧ va_F (fun q => A q ∨ sz ≤ q) st t) rm.cells rm.slots (fun q => A q ∨ sz ≤ q)
/-- what a body that owes Ctr has at hand -/
def Bd (p : Program) (s : State) (m : MethodId) (a : Array Value) (below : List Frame) (meth : Method) (c : Code) (cc : ByteArray) (maxL : Nat) (ret : Option FieldType) (rm : Room) (own : String) (Post : Heap → Option Value → Heap → Prop) (A : Nat → Prop) (Q : State → Prop) : Prop :=
  meth.sig.returnType = ret ∧ meth.locks = false ∧ Q = MQ below (fun _ st o t => (∃ v, o = .returned v ∧ Post st.heap v t.heap) ∧ va_F (fun q => A q ∨ s.heap.size ≤ q) st t) a s rm.cells rm.slots (fun q => A q ∨ s.heap.size ≤ q)
theorem met_ofWF {l : Launch} {y : MethodName} {ws ws' : List Cond} {rm : Room} {Pc : Array Value → State → Prop} {Qc : Array Value → State → Outcome → State → Prop} {mc ms : Nat} {free : Addr → Prop} {cc : ByteArray} {maxL : Nat} {ret : Option FieldType}
    (hy : plainFor y = true) (hw : ws = Cond.code y cc maxL ret :: ws')
    (body : ∀ p e s m args below meth c s₁, BodyLoose p l y (headSpec ws rm) cc maxL ret e s m args below meth c s₁ → c.maxLocals = maxL → Pc args s →
      W p l e (headSpec ws rm).room s m args below meth c s.heap [] 0 0 (MQ below Qc args s mc ms free) (entryFrame m args maxL)) : Met l y ws rm Pc Qc mc ms free := by
  refine MetFree.of_bodySF (code := cc) (maxLocals := maxL) (ret := ret) hy ?_ ?_
  · intro args s m h hn
    obtain ⟨meth, c, h1, h2, h3, h4, h5, h6, -, -⟩ := Cond.code_spec hn (atoms_spec (ws := ws) h _ (by rw [hw]; exact List.mem_cons_self))
    exact ⟨meth, c, h1, h2, h3, h4, h5, h6⟩
  · intro p e s m args below meth c s₁ B hml hP _
    have hh0 : s₁.heap = s.heap := by rw [B.state]; rfl
    obtain ⟨t, a1, o, b1, b2, b3⟩ := body p e s m args below meth c s₁ B hml hP s₁ hh0 (Stand.of_body B)
    exact ⟨t, o, a1, b1, b2, ⟨b3.1, b3.2⟩⟩
theorem Ctr.mk {G : State → Prop} {l : Launch} {y : MethodName} {cc : ByteArray} {maxL : Nat} {ret : Option FieldType} {rm : Room} {av : List Value} {P : Heap → Prop} {Post : Heap → Option Value → Heap → Prop} {A : Nat → Prop} (hy : plainFor y = true) (hav : (lg_sl av).length ≤ maxL)
    (body : ∀ (p : Program) (e : Env) (s : State) (m : MethodId) (a : Array Value) (below : List Frame) (meth : Method) (c : Code) (Q : State → Prop) (ls : Array Slot), CallFix p m c cc maxL s a lw_all y.cls → Bd p s m a below meth c cc maxL ret rm y.cls Post A Q → (y.name = meth.name) → G s → P s.heap → lv_has ls maxL (lv_args 0 av) →
      W p l e rm s m a below meth c s.heap [] 0 0 Q (F0 m 0 ls [])) : Ctr G l y cc maxL ret rm av P Post A := by
  intro sz
  refine met_ofWF (cc := cc) (maxL := maxL) (ret := ret) hy rfl ?_
  intro p e s m args below meth c s₁ B hml hv
  obtain ⟨rfl, hsz, hG, hP⟩ := hv
  subst hsz
  have hl := lv_entry av (n := maxL) hav
  rw [lg_entry_eq]
  have hts := atoms_spec (ws := ws_ y cc maxL ret) B.pre
  refine body p e s m av.toArray below meth c _ _ ⟨B.exec, B.bytes, hml, findClass_of_methodNamed B.named, fun w h => hts w (List.mem_cons_of_mem _ h)⟩ ⟨B.returns, B.notSynchronized, rfl⟩ (name_of_methodNamed B.named B.method).1.symm hG hP hl
section RW
variable {p : Program} {l : Launch} {e : Env} {R : Room} {s : State} {m : MethodId} {a : Array Value} {below : List Frame} {meth : Method} {c : Code} {H : Heap} {locs : List Loc} {cells slots : Nat} {Q : State → Prop}
variable {cc : ByteArray} {pc nL : Nat} {ls : Array Slot} {rest : List Value} {own : String}
theorem n_iadd (S : CallFix p m c cc nL s a lw_all own) {x y : Nat} (hdg : decode cc pc = .ok (.iadd, 1)) (k : W p l e R s m a below meth c H locs cells slots Q (F0 m (pc + 1) ls (.int (nI (x + y)) :: rest))) : W p l e R s m a below meth c H locs cells slots Q (F0 m pc ls (.int (nI y) :: .int (nI x) :: rest)) := lv_iadd S.1 S.2.1 hdg (by rw [nI_add]; exact k)
theorem n_isub (S : CallFix p m c cc nL s a lw_all own) {x y : Nat} (hdg : decode cc pc = .ok (.isub, 1)) (h : y ≤ x) (k : W p l e R s m a below meth c H locs cells slots Q (F0 m (pc + 1) ls (.int (nI (x - y)) :: rest))) : W p l e R s m a below meth c H locs cells slots Q (F0 m pc ls (.int (nI y) :: .int (nI x) :: rest)) := lv_isub S.1 S.2.1 hdg (by rw [pk_sub h]; exact k)
theorem n_imul (S : CallFix p m c cc nL s a lw_all own) {x y : Nat} (hdg : decode cc pc = .ok (.imul, 1)) (k : W p l e R s m a below meth c H locs cells slots Q (F0 m (pc + 1) ls (.int (nI (x * y)) :: rest))) : W p l e R s m a below meth c H locs cells slots Q (F0 m pc ls (.int (nI y) :: .int (nI x) :: rest)) := lv_imul S.1 S.2.1 hdg (by rw [pk_mul]; exact k)
theorem n_idiv (S : CallFix p m c cc nL s a lw_all own) {x y : Nat} (hdg : decode cc pc = .ok (.idiv, 1)) (hx : x < 2 ^ 31) (h0 : 0 < y) (hy : y < 2 ^ 31) (k : W p l e R s m a below meth c H locs cells slots Q (F0 m (pc + 1) ls (.int (nI (x / y)) :: rest))) : W p l e R s m a below meth c H locs cells slots Q (F0 m pc ls (.int (nI y) :: .int (nI x) :: rest)) := lv_idiv S.1 S.2.1 hdg (nI_ne0 h0 hy) (by rw [pk_div hx h0 hy]; exact k)
theorem n_irem (S : CallFix p m c cc nL s a lw_all own) {x y : Nat} (hdg : decode cc pc = .ok (.irem, 1)) (hx : x < 2 ^ 31) (h0 : 0 < y) (hy : y < 2 ^ 31) (k : W p l e R s m a below meth c H locs cells slots Q (F0 m (pc + 1) ls (.int (nI (x % y)) :: rest))) : W p l e R s m a below meth c H locs cells slots Q (F0 m pc ls (.int (nI y) :: .int (nI x) :: rest)) := lv_irem S.1 S.2.1 hdg (nI_ne0 h0 hy) (by rw [pk_rem hx h0 hy]; exact k)
theorem n_iand (S : CallFix p m c cc nL s a lw_all own) {x y : Nat} (hdg : decode cc pc = .ok (.iand, 1)) (k : W p l e R s m a below meth c H locs cells slots Q (F0 m (pc + 1) ls (.int (nI (x &&& y)) :: rest))) : W p l e R s m a below meth c H locs cells slots Q (F0 m pc ls (.int (nI y) :: .int (nI x) :: rest)) := lv_iand S.1 S.2.1 hdg (by rw [nx_and]; exact k)
theorem n_ior (S : CallFix p m c cc nL s a lw_all own) {x y : Nat} (hdg : decode cc pc = .ok (.ior, 1)) (k : W p l e R s m a below meth c H locs cells slots Q (F0 m (pc + 1) ls (.int (nI (x ||| y)) :: rest))) : W p l e R s m a below meth c H locs cells slots Q (F0 m pc ls (.int (nI y) :: .int (nI x) :: rest)) := lv_ior S.1 S.2.1 hdg (by rw [nI_or]; exact k)
theorem n_ixor (S : CallFix p m c cc nL s a lw_all own) {x y : Nat} (hdg : decode cc pc = .ok (.ixor, 1)) (k : W p l e R s m a below meth c H locs cells slots Q (F0 m (pc + 1) ls (.int (nI (x ^^^ y)) :: rest))) : W p l e R s m a below meth c H locs cells slots Q (F0 m pc ls (.int (nI y) :: .int (nI x) :: rest)) := lv_ixor S.1 S.2.1 hdg (by rw [nx_xor]; exact k)
theorem n_ishl (S : CallFix p m c cc nL s a lw_all own) {x y : Nat} (hdg : decode cc pc = .ok (.ishl, 1)) (hy : y < 32) (k : W p l e R s m a below meth c H locs cells slots Q (F0 m (pc + 1) ls (.int (nI (x <<< y)) :: rest))) : W p l e R s m a below meth c H locs cells slots Q (F0 m pc ls (.int (nI y) :: .int (nI x) :: rest)) := lv_ishl S.1 S.2.1 hdg (by rw [nI_shl hy]; exact k)
theorem n_ishr (S : CallFix p m c cc nL s a lw_all own) {x y : Nat} (hdg : decode cc pc = .ok (.ishr, 1)) (hx : x < 2 ^ 31) (hy : y < 32) (k : W p l e R s m a below meth c H locs cells slots Q (F0 m (pc + 1) ls (.int (nI (x >>> y)) :: rest))) : W p l e R s m a below meth c H locs cells slots Q (F0 m pc ls (.int (nI y) :: .int (nI x) :: rest)) := lv_ishr S.1 S.2.1 hdg (by rw [nI_shr hx hy]; exact k)
theorem n_iushr (S : CallFix p m c cc nL s a lw_all own) {x y : Nat} (hdg : decode cc pc = .ok (.iushr, 1)) (hx : x < 2 ^ 32) (hy : y < 32) (k : W p l e R s m a below meth c H locs cells slots Q (F0 m (pc + 1) ls (.int (nI (x >>> y)) :: rest))) : W p l e R s m a below meth c H locs cells slots Q (F0 m pc ls (.int (nI y) :: .int (nI x) :: rest)) := lv_iushr S.1 S.2.1 hdg (nI_ushr hx hy) k
theorem n_icmp_eq (S : CallFix p m c cc nL s a lw_all own) {x y : Nat} {off : Int} {tgt : Nat} (hdg : decode cc pc = .ok (.if_icmp .eq off, 3)) (ht : (pc : Int) + off = (tgt : Int)) (hx : x < 2 ^ 31) (hy : y < 2 ^ 31) (kt : x = y → W p l e R s m a below meth c H locs cells slots Q (F0 m tgt ls rest)) (kf : ¬ (x = y) → W p l e R s m a below meth c H locs cells slots Q (F0 m (pc + 3) ls rest)) : W p l e R s m a below meth c H locs cells slots Q (F0 m pc ls (.int (nI y) :: .int (nI x) :: rest)) := lv_icmp_eq S.1 S.2.1 hdg ht (fun h => kt ((nI_eq hx hy).mp h)) (fun h => kf (fun q => h ((nI_eq hx hy).mpr q)))
theorem n_icmp_ne (S : CallFix p m c cc nL s a lw_all own) {x y : Nat} {off : Int} {tgt : Nat} (hdg : decode cc pc = .ok (.if_icmp .ne off, 3)) (ht : (pc : Int) + off = (tgt : Int)) (hx : x < 2 ^ 31) (hy : y < 2 ^ 31) (kt : ¬ x = y → W p l e R s m a below meth c H locs cells slots Q (F0 m tgt ls rest)) (kf : x = y → W p l e R s m a below meth c H locs cells slots Q (F0 m (pc + 3) ls rest)) : W p l e R s m a below meth c H locs cells slots Q (F0 m pc ls (.int (nI y) :: .int (nI x) :: rest)) := lv_icmp_ne S.1 S.2.1 hdg ht (fun h => kt (fun q => h ((nI_eq hx hy).mpr q))) (fun h => kf ((nI_eq hx hy).mp h))
theorem n_icmp_lt (S : CallFix p m c cc nL s a lw_all own) {x y : Nat} {off : Int} {tgt : Nat} (hdg : decode cc pc = .ok (.if_icmp .lt off, 3)) (ht : (pc : Int) + off = (tgt : Int)) (hx : x < 2 ^ 31) (hy : y < 2 ^ 31) (kt : x < y → W p l e R s m a below meth c H locs cells slots Q (F0 m tgt ls rest)) (kf : ¬ (x < y) → W p l e R s m a below meth c H locs cells slots Q (F0 m (pc + 3) ls rest)) : W p l e R s m a below meth c H locs cells slots Q (F0 m pc ls (.int (nI y) :: .int (nI x) :: rest)) := lv_icmp_lt S.1 S.2.1 hdg ht (fun h => kt ((nI_ltI hx hy).mp h)) (fun h => kf (fun q => h ((nI_ltI hx hy).mpr q)))
theorem n_icmp_ge (S : CallFix p m c cc nL s a lw_all own) {x y : Nat} {off : Int} {tgt : Nat} (hdg : decode cc pc = .ok (.if_icmp .ge off, 3)) (ht : (pc : Int) + off = (tgt : Int)) (hx : x < 2 ^ 31) (hy : y < 2 ^ 31) (kt : y ≤ x → W p l e R s m a below meth c H locs cells slots Q (F0 m tgt ls rest)) (kf : ¬ (y ≤ x) → W p l e R s m a below meth c H locs cells slots Q (F0 m (pc + 3) ls rest)) : W p l e R s m a below meth c H locs cells slots Q (F0 m pc ls (.int (nI y) :: .int (nI x) :: rest)) := lv_icmp_ge S.1 S.2.1 hdg ht (fun h => kt ((nI_leI hy hx).mp h)) (fun h => kf (fun q => h ((nI_leI hy hx).mpr q)))
theorem n_icmp_gt (S : CallFix p m c cc nL s a lw_all own) {x y : Nat} {off : Int} {tgt : Nat} (hdg : decode cc pc = .ok (.if_icmp .gt off, 3)) (ht : (pc : Int) + off = (tgt : Int)) (hx : x < 2 ^ 31) (hy : y < 2 ^ 31) (kt : y < x → W p l e R s m a below meth c H locs cells slots Q (F0 m tgt ls rest)) (kf : ¬ (y < x) → W p l e R s m a below meth c H locs cells slots Q (F0 m (pc + 3) ls rest)) : W p l e R s m a below meth c H locs cells slots Q (F0 m pc ls (.int (nI y) :: .int (nI x) :: rest)) := lv_icmp_gt S.1 S.2.1 hdg ht (fun h => kt ((nI_ltI hy hx).mp h)) (fun h => kf (fun q => h ((nI_ltI hy hx).mpr q)))
theorem n_icmp_le (S : CallFix p m c cc nL s a lw_all own) {x y : Nat} {off : Int} {tgt : Nat} (hdg : decode cc pc = .ok (.if_icmp .le off, 3)) (ht : (pc : Int) + off = (tgt : Int)) (hx : x < 2 ^ 31) (hy : y < 2 ^ 31) (kt : x ≤ y → W p l e R s m a below meth c H locs cells slots Q (F0 m tgt ls rest)) (kf : ¬ (x ≤ y) → W p l e R s m a below meth c H locs cells slots Q (F0 m (pc + 3) ls rest)) : W p l e R s m a below meth c H locs cells slots Q (F0 m pc ls (.int (nI y) :: .int (nI x) :: rest)) := lv_icmp_le S.1 S.2.1 hdg ht (fun h => kt ((nI_leI hx hy).mp h)) (fun h => kf (fun q => h ((nI_leI hx hy).mpr q)))
theorem b_icmp_eq (S : CallFix p m c cc nL s a lw_all own) {x y : Bool} {off : Int} {tgt : Nat} (hdg : decode cc pc = .ok (.if_icmp .eq off, 3)) (ht : (pc : Int) + off = (tgt : Int)) (kt : x = y → W p l e R s m a below meth c H locs cells slots Q (F0 m tgt ls rest)) (kf : ¬ x = y → W p l e R s m a below meth c H locs cells slots Q (F0 m (pc + 3) ls rest)) : W p l e R s m a below meth c H locs cells slots Q (F0 m pc ls (.int (nI y.toNat) :: .int (nI x.toNat) :: rest)) := lv_icmp_eq S.1 S.2.1 hdg ht (fun h => kt ((nI_bb x y).mp h)) (fun h => kf (fun q => h ((nI_bb x y).mpr q)))
theorem b_icmp_ne (S : CallFix p m c cc nL s a lw_all own) {x y : Bool} {off : Int} {tgt : Nat} (hdg : decode cc pc = .ok (.if_icmp .ne off, 3)) (ht : (pc : Int) + off = (tgt : Int)) (kt : ¬ x = y → W p l e R s m a below meth c H locs cells slots Q (F0 m tgt ls rest)) (kf : x = y → W p l e R s m a below meth c H locs cells slots Q (F0 m (pc + 3) ls rest)) : W p l e R s m a below meth c H locs cells slots Q (F0 m pc ls (.int (nI y.toNat) :: .int (nI x.toNat) :: rest)) := lv_icmp_ne S.1 S.2.1 hdg ht (fun h => kt (fun q => h ((nI_bb x y).mpr q))) (fun h => kf ((nI_bb x y).mp h))
theorem b_if_eq (S : CallFix p m c cc nL s a lw_all own) {x : Bool} {off : Int} {tgt : Nat} (hdg : decode cc pc = .ok (.ifCond .eq off, 3)) (ht : (pc : Int) + off = (tgt : Int)) (kt : x = false → W p l e R s m a below meth c H locs cells slots Q (F0 m tgt ls rest)) (kf : x = true → W p l e R s m a below meth c H locs cells slots Q (F0 m (pc + 3) ls rest)) : W p l e R s m a below meth c H locs cells slots Q (F0 m pc ls (.int (nI x.toNat) :: rest)) := lv_if_eq S.1 S.2.1 hdg ht (fun h => kt ((nI_b x).mp h)) (fun h => kf (by cases x; exact absurd rfl h; rfl))
theorem b_if_ne (S : CallFix p m c cc nL s a lw_all own) {x : Bool} {off : Int} {tgt : Nat} (hdg : decode cc pc = .ok (.ifCond .ne off, 3)) (ht : (pc : Int) + off = (tgt : Int)) (kt : x = true → W p l e R s m a below meth c H locs cells slots Q (F0 m tgt ls rest)) (kf : x = false → W p l e R s m a below meth c H locs cells slots Q (F0 m (pc + 3) ls rest)) : W p l e R s m a below meth c H locs cells slots Q (F0 m pc ls (.int (nI x.toNat) :: rest)) := lv_if_ne S.1 S.2.1 hdg ht (fun h => kt (by cases x; exact absurd rfl h; rfl)) (fun h => kf ((nI_b x).mp h))
theorem n_if_eq (S : CallFix p m c cc nL s a lw_all own) {x : Nat} {off : Int} {tgt : Nat} (hdg : decode cc pc = .ok (.ifCond .eq off, 3)) (ht : (pc : Int) + off = (tgt : Int)) (hx : x < 2 ^ 31) (kt : x = 0 → W p l e R s m a below meth c H locs cells slots Q (F0 m tgt ls rest)) (kf : ¬ x = 0 → W p l e R s m a below meth c H locs cells slots Q (F0 m (pc + 3) ls rest)) : W p l e R s m a below meth c H locs cells slots Q (F0 m pc ls (.int (nI x) :: rest)) := lv_if_eq S.1 S.2.1 hdg ht (fun h => kt ((nI_zero_iff hx).mp h)) (fun h => kf (fun q => h ((nI_zero_iff hx).mpr q)))
theorem n_if_ne (S : CallFix p m c cc nL s a lw_all own) {x : Nat} {off : Int} {tgt : Nat} (hdg : decode cc pc = .ok (.ifCond .ne off, 3)) (ht : (pc : Int) + off = (tgt : Int)) (hx : x < 2 ^ 31) (kt : ¬ x = 0 → W p l e R s m a below meth c H locs cells slots Q (F0 m tgt ls rest)) (kf : x = 0 → W p l e R s m a below meth c H locs cells slots Q (F0 m (pc + 3) ls rest)) : W p l e R s m a below meth c H locs cells slots Q (F0 m pc ls (.int (nI x) :: rest)) := lv_if_ne S.1 S.2.1 hdg ht (fun h => kt (fun q => h ((nI_zero_iff hx).mpr q))) (fun h => kf ((nI_zero_iff hx).mp h))
theorem n_if_lt (S : CallFix p m c cc nL s a lw_all own) {x : Nat} {off : Int} {tgt : Nat} (hdg : decode cc pc = .ok (.ifCond .lt off, 3)) (ht : (pc : Int) + off = (tgt : Int)) (hx : x < 2 ^ 31) (kf : W p l e R s m a below meth c H locs cells slots Q (F0 m (pc + 3) ls rest)) : W p l e R s m a below meth c H locs cells slots Q (F0 m pc ls (.int (nI x) :: rest)) := lv_if_lt S.1 S.2.1 hdg ht (fun h => absurd h (nI_neg hx)) (fun _ => kf)
theorem n_if_ge (S : CallFix p m c cc nL s a lw_all own) {x : Nat} {off : Int} {tgt : Nat} (hdg : decode cc pc = .ok (.ifCond .ge off, 3)) (ht : (pc : Int) + off = (tgt : Int)) (hx : x < 2 ^ 31) (kt : W p l e R s m a below meth c H locs cells slots Q (F0 m tgt ls rest)) : W p l e R s m a below meth c H locs cells slots Q (F0 m pc ls (.int (nI x) :: rest)) := lv_if_ge S.1 S.2.1 hdg ht (fun _ => kt) (fun h => absurd (nI_pos' hx) h)
/-! ends -/
theorem r_out {Post : Heap → Option Value → Heap → Prop} {A : Nat → Prop} {v : Option Value} {a : Array Value} {s : State} {H : Heap} {locs : List Loc} (hpost : Post s.heap v H) (hS : Sx A s H locs) :
    ∀ t : State, t.heap = H → s.WarmedH t.vm → (fun (_ : Array Value) (st : State) (o : Outcome) (t : State) => (∃ v, o = .returned v ∧ Post st.heap v t.heap) ∧ va_F (fun q => A q ∨ s.heap.size ≤ q) st t) a s (.returned v) t :=
  fun t ht _ => ⟨⟨v, rfl, by rw [ht]; exact hpost⟩, va_S.F hS ht⟩
theorem r_iret (S : CallFix p m c cc nL s a lw_all own) {maxL : Nat} {rm : Room} {o2 : String} {ty : FieldType} {Post : Heap → Option Value → Heap → Prop} {A : Nat → Prop} {v : Int32} (B : Bd p s m a below meth c cc maxL (some ty) rm o2 Post A Q) (hS : Sx A s H locs) (hdg : decode cc pc = .ok (.ireturn, 1)) (hn : narrow ty (.int v) = .int v) (hc : cells ≤ rm.cells) (hs : slots ≤ rm.slots) (hpost : Post s.heap (some (.int v)) H) :
    W p l e R s m a below meth c H locs cells slots Q (F0 m pc ls [.int v]) := by
  obtain ⟨hr, hlocks, rfl⟩ := B
  exact W.widen hc hs (W.zret (v := v) S.1 S.2.1 hr hn (r_out (a := a) hpost hS) hS.2.2 hdg)
theorem r_vret (S : CallFix p m c cc nL s a lw_all own) {maxL : Nat} {rm : Room} {o2 : String} {Post : Heap → Option Value → Heap → Prop} {A : Nat → Prop} (B : Bd p s m a below meth c cc maxL none rm o2 Post A Q) (hS : Sx A s H locs) (hdg : decode cc pc = .ok (.return_, 1)) (hc : cells ≤ rm.cells) (hs : slots ≤ rm.slots) (hpost : Post s.heap none H) :
    W p l e R s m a below meth c H locs cells slots Q (F0 m pc ls []) := by
  obtain ⟨hr, hlocks, rfl⟩ := B
  exact W.widen hc hs (W.vret S.1 S.2.1 hr (r_out (a := a) hpost hS) hS.2.2 hdg)
theorem r_aret (S : CallFix p m c cc nL s a lw_all own) {maxL : Nat} {rm : Room} {o2 : String} {ty : FieldType} {Post : Heap → Option Value → Heap → Prop} {A : Nat → Prop} {v : Value} (B : Bd p s m a below meth c cc maxL (some ty) rm o2 Post A Q) (hS : Sx A s H locs) (hdg : decode cc pc = .ok (.areturn, 1)) (hrt : (∃ n, ty = .object n) ∨ ∃ t, ty = .array t) (hv : v = .null ∨ ∃ a, v = .ref a) (hc : cells ≤ rm.cells) (hs : slots ≤ rm.slots) (hpost : Post s.heap (some v) H) :
    W p l e R s m a below meth c H locs cells slots Q (F0 m pc ls [v]) := by
  obtain ⟨hr, hlocks, rfl⟩ := B
  exact W.widen hc hs (W.aret S.1 S.2.1 hr hrt hv (r_out (a := a) hpost hS) hS.2.2 hdg)
/-! calls -/
theorem r_after {A A' : Nat → Prop} {g : JFrame} {mc ms : Nat} {Post : Heap → Option Value → Heap → Prop} {H : Heap} {aa : Array Value}
    (hr : va_Run p l e R s m a below meth c H locs cells slots mc ms g rest ((fun (_ : Array Value) (st : State) (o : Outcome) (t : State) => (∃ v, o = .returned v ∧ Post st.heap v t.heap) ∧ va_F (fun q => A' q ∨ H.size ≤ q) st t) aa) (fun q => A' q ∨ H.size ≤ q)) (hS : Sx A s H locs) (hA : ∀ q, A' q → A q ∨ s.heap.size ≤ q)
    (kk : ∀ (v : Option Value) (H1 : Heap) (locs1 : List Loc), Post H v H1 → H.size ≤ H1.size → (∀ q : Nat, q < H.size → ¬ A' q → H1[q]? = H[q]?) → Sx A s H1 locs1 → W p l e R s m a below meth c H1 locs1 (cells + mc) (slots + ms) Q { g with pc := g.pc + 3, stack := v.toList ++ rest }) : W p l e R s m a below meth c H locs cells slots Q g := by
  intro T hT X
  obtain ⟨v, st₀, t, T', L, h0, X', hL, e1, e2, ⟨⟨v', hv, hp⟩, hz, hk⟩, st⟩ := hr T hT X
  cases hv
  rw [h0] at hz hk hp
  have hA2 : ∀ q, A' q ∨ H.size ≤ q → A q ∨ s.heap.size ≤ q := fun q h => h.elim (hA q) (fun h => Or.inr (Nat.le_trans hS.1 h))
  obtain ⟨t2, a1, b1⟩ := kk v T'.heap (locs ++ L) (by rw [e1]; exact hp) (by rw [e1]; exact hz) (fun q h1 h2 => by rw [e1]; exact hk q h1 (fun z => z.elim h2 (fun w => absurd h1 (Nat.not_lt.mpr w))))
    ⟨Nat.le_trans hS.1 (by rw [e1]; exact hz), fun q h1 h2 => by rw [e1, hk q (Nat.lt_of_lt_of_le h1 hS.1) (fun z => h2 (hA2 q z))]; exact hS.2.1 q h1 h2, fun q hq => by
      rcases List.mem_append.mp hq with h | h
      · exact hS.2.2 q h
      · exact hA2 _ (hL q h)⟩ T' rfl X'
  exact ⟨t2, st t2 a1, b1⟩
theorem Blind.fb {G : State → Prop} {P : Heap → Prop} {sz : Nat} {av : List Value} (hb : Blind G) : FrameBlind (va_Pc av (fun U => U.heap.size = sz ∧ G U ∧ P U.heap)) := fun a U g mk q => ⟨q.1, q.2.1, hb U g mk a q.2.2.1, q.2.2.2⟩
theorem r_callS (S : CallFix p m c cc nL s a lw_all own) {G : State → Prop} {y : MethodName} {c2 : ByteArray} {maxL index : Nat} {ret : Option FieldType} {rm : Room} {As st rest : List Value} {P : Heap → Prop} {Post : Heap → Option Value → Heap → Prop} {A A' : Nat → Prop}
    (hM : Ctr G l y c2 maxL ret rm As P Post A') (hq : GoodIn lw_all (va_wsS own index y (ws_ y c2 maxL ret))) (hd : y.cls ≠ "java/lang/invoke/MethodHandle" ∧ y.cls ≠ "java/lang/invoke/VarHandle" ∧ (parseMethodDescriptor y.desc).map (fun d => d.parameters.length) = some As.length) (hR : rm.frames + 1 ≤ R.frames ∧ 8 + (maxL + 11) + rm.locals ≤ R.locals)
    (hB : Blind G) (hG : ∀ U : State, U.heap = H → s.WarmedH U.vm → G U) (hP : P H) (hls : ls.size = nL) (hst : st = As.reverse ++ rest) (hcat : (rest.map fun v => v.category).sum ≤ 8) (hdg : decode cc pc = .ok (.invokestatic index, 3)) (hf : cells + rm.cells ≤ R.cells ∧ slots + rm.slots ≤ R.slots) (hS : Sx A s H locs) (hA : ∀ q, A' q → A q ∨ s.heap.size ≤ q)
    (kk : ∀ (v : Option Value) (H1 : Heap) (locs1 : List Loc), Post H v H1 → H.size ≤ H1.size → (∀ q : Nat, q < H.size → ¬ A' q → H1[q]? = H[q]?) → Sx A s H1 locs1 → W p l e R s m a below meth c H1 locs1 (cells + rm.cells) (slots + rm.slots) Q (F0 m (pc + 3) ls (v.toList ++ rest))) : W p l e R s m a below meth c H locs cells slots Q (F0 m pc ls st) :=
  r_after (aa := As.toArray) (va_runS S (hM H.size) (va_cwS As.length S.2.2.2.2 hq rfl rfl rfl hd hR) ⟨(Blind.fb hB), fun U hU hW => ⟨rfl, by rw [hU], hG U hU hW, by rw [hU]; exact hP⟩⟩ rfl rfl hls hst (lv_room hcat) hdg hf) hS hA kk
theorem r_callV (S : CallFix p m c cc nL s a lw_all own) {G : State → Prop} {y : MethodName} {c2 : ByteArray} {C : String} {b maxL index : Nat} {ret : Option FieldType} {rm : Room} {As st rest : List Value} {P : Heap → Prop} {Post : Heap → Option Value → Heap → Prop} {A A' : Nat → Prop}
    (hM : Ctr G l y c2 maxL ret rm (.ref b :: As) P Post A') (hq : GoodIn lw_all (wsV own index C y (ws_ y c2 maxL ret))) (hd : y.cls = C ∧ y.cls ≠ "java/lang/invoke/MethodHandle" ∧ y.cls ≠ "java/lang/invoke/VarHandle" ∧ (parseMethodDescriptor y.desc).map (fun d => d.parameters.length) = some As.length) (hR : rm.frames + 1 ≤ R.frames ∧ 8 + (maxL + 11) + rm.locals ≤ R.locals)
    (hrv : ∃ cell : Cell, H[b]? = some cell ∧ cell.vm.isStatics = false ∧ s.vm.findClass C = some cell.cls)
    (hB : Blind G) (hG : ∀ U : State, U.heap = H → s.WarmedH U.vm → G U) (hP : P H) (hls : ls.size = nL) (hst : st = As.reverse ++ .ref b :: rest) (hcat : (rest.map fun v => v.category).sum ≤ 8) (hdg : decode cc pc = .ok (.invokevirtual index, 3)) (hf : cells + rm.cells ≤ R.cells ∧ slots + rm.slots ≤ R.slots) (hS : Sx A s H locs) (hA : ∀ q, A' q → A q ∨ s.heap.size ≤ q)
    (kk : ∀ (v : Option Value) (H1 : Heap) (locs1 : List Loc), Post H v H1 → H.size ≤ H1.size → (∀ q : Nat, q < H.size → ¬ A' q → H1[q]? = H[q]?) → Sx A s H1 locs1 → W p l e R s m a below meth c H1 locs1 (cells + rm.cells) (slots + rm.slots) Q (F0 m (pc + 3) ls (v.toList ++ rest))) : W p l e R s m a below meth c H locs cells slots Q (F0 m pc ls st) :=
  r_after (aa := (Value.ref b :: As).toArray) (va_runV S (hM H.size) (cwV As.length S.2.2.2.2 hq rfl rfl rfl hd hR) ⟨(Blind.fb hB), hrv, fun U hU hW => ⟨rfl, by rw [hU], hG U hU hW, by rw [hU]; exact hP⟩⟩ rfl rfl hls hst (lv_room hcat) hdg hf) hS hA kk
theorem r_callI (S : CallFix p m c cc nL s a lw_all own) {G : State → Prop} {y : MethodName} {c2 : ByteArray} {b maxL index : Nat} {rm : Room} {As st rest : List Value} {P : Heap → Prop} {Post : Heap → Option Value → Heap → Prop} {A A' : Nat → Prop}
    (hM : Ctr G l y c2 maxL none rm (.ref b :: As) P Post A') (hq : GoodIn lw_all (ws_ y c2 maxL none)) (hini : Cond.initialized y.cls ∈ lw_all) (hlk : Cond.methodLink own index y ∈ lw_all) (hin : Cond.instanceMethod y ∈ lw_all) (hy1 : y.name = "<init>") (hd : y.cls ≠ "java/lang/invoke/MethodHandle" ∧ y.cls ≠ "java/lang/invoke/VarHandle" ∧ (parseMethodDescriptor y.desc).map (fun d => d.parameters.length) = some As.length) (hR : rm.frames + 1 ≤ R.frames ∧ 8 + (maxL + 11) + rm.locals ≤ R.locals)
    (hB : Blind G) (hG : ∀ U : State, U.heap = H → s.WarmedH U.vm → G U) (hP : P H) (hls : ls.size = nL) (hst : st = As.reverse ++ .ref b :: rest) (hcat : (rest.map fun v => v.category).sum ≤ 8) (hdg : decode cc pc = .ok (.invokespecial index, 3)) (hf : cells + rm.cells ≤ R.cells ∧ slots + rm.slots ≤ R.slots) (hS : Sx A s H locs) (hA : ∀ q, A' q → A q ∨ s.heap.size ≤ q)
    (kk : ∀ (v : Option Value) (H1 : Heap) (locs1 : List Loc), Post H v H1 → H.size ≤ H1.size → (∀ q : Nat, q < H.size → ¬ A' q → H1[q]? = H[q]?) → Sx A s H1 locs1 → W p l e R s m a below meth c H1 locs1 (cells + rm.cells) (slots + rm.slots) Q (F0 m (pc + 3) ls (v.toList ++ rest))) : W p l e R s m a below meth c H locs cells slots Q (F0 m pc ls st) :=
  r_after (aa := (Value.ref b :: As).toArray) (va_runI S (hM H.size) (cwI As.length S.2.2.2.2 hq rfl rfl rfl (S.2.2.2.2 _ hini) (S.2.2.2.2 _ hlk) (S.2.2.2.2 _ hin) hy1 hd hR) ⟨(Blind.fb hB), fun U hU hW => ⟨rfl, by rw [hU], hG U hU hW, by rw [hU]; exact hP⟩⟩ rfl rfl hls hst (lv_room hcat) hdg hf) hS hA kk
/-! fields and arrays, cell by cell -/
variable {D : va_G} {cl : List vw_C} {tys : List (ClassId × FieldType)} {ad : Nat} {A : Nat → Prop}
theorem at_P {q : Nat × va_E} (h : va_at D cl q H) : va_P D cl [q] H := by
  intro k q2 hk
  have : k < 1 := (List.getElem?_eq_some_iff.mp hk).1
  rw [show k = 0 by omega] at hk
  cases hk
  exact h
theorem r_get (S : CallFix p m c cc nL s a lw_all own) {ref C : String} {T : u_T} {N ci index : Nat} {fs : List Value} (hat : va_at D cl (ad, .inr (ci, fs)) H) (hK : va_K D cl tys s) (hin : ∀ w ∈ u_ws C T N, w ∈ lw_all) (hc : cl[ci]? = some (C, T, N)) (k : Nat) (hk : k < N) (hlink : Cond.fieldLink own index ref (T k).2.1 (T k).2.2.1 ∈ lw_all) (hsame : ∀ x, s.fieldFound? (T k).1 (T k).2.1 (T k).2.2.1 = some x → s.fieldFound? ref (T k).2.1 (T k).2.2.1 = some x) {v : Value} (hv : fs[k]? = some v) (hdg : decode cc pc = .ok (.getfield index, 3))
    (kk : W p l e R s m a below meth c H locs cells slots Q (F0 m (pc + 3) ls (v :: rest))) : W p l e R s m a below meth c H locs cells slots Q (F0 m pc ls (.ref ad :: rest)) :=
  va_get (D := D) (cl := cl) (tys := tys) (ws := [(ad, .inr (ci, fs))]) S.1 S.2.1 S.2.2.2.2 hin S.2.2.2.1 hK (at_P hat) 0 rfl hc k hk (S.2.2.2.2 _ hlink) hsame hv hdg kk
theorem r_put (S : CallFix p m c cc nL s a lw_all own) {ref C : String} {T : u_T} {N ci index : Nat} {fs fs' : List Value} (hat : va_at D cl (ad, .inr (ci, fs)) H) (hK : va_K D cl tys s) (hin : ∀ w ∈ u_ws C T N, w ∈ lw_all) (ty0 : Nat → FieldType) (hty : ∀ k, k < N → parseFieldDescriptor (T k).2.2.1 = some (ty0 k)) (hnm : ∀ a, a < N → ∀ b, b < N → a ≠ b → (T a).2.1 ≠ (T b).2.1) (hc : cl[ci]? = some (C, T, N)) (k : Nat) (hk : k < N) (hlink : Cond.fieldLink own index ref (T k).2.1 (T k).2.2.1 ∈ lw_all) (hsame : ∀ x, s.fieldFound? (T k).1 (T k).2.1 (T k).2.2.1 = some x → s.fieldFound? ref (T k).2.1 (T k).2.2.1 = some x) (hfin : (T k).2.2.2 = false) {v : Value} (hn : narrow (ty0 k) v = v) (hfit : fits (ty0 k) v = true) (hl : k < fs.length) (hfs : fs.set k v = fs') (hdg : decode cc pc = .ok (.putfield index, 3)) (hS : Sx A s H locs) (hA : A ad ∨ s.heap.size ≤ ad)
    (kk : ∀ (H1 : Heap) (locs1 : List Loc), va_at D cl (ad, .inr (ci, fs')) H1 → H1.size = H.size → (∀ q, q ≠ ad → H1[q]? = H[q]?) → Sx A s H1 locs1 → W p l e R s m a below meth c H1 locs1 cells slots Q (F0 m (pc + 3) ls rest)) : W p l e R s m a below meth c H locs cells slots Q (F0 m pc ls (v :: .ref ad :: rest)) := by
  have hap := va_apart (own := own) S.2.2.2.2 hin ty0 hty hnm hK hc
  obtain ⟨r, h1, cell, q1, q2, q3, q4⟩ := hat
  have hr : r = (C, T, N) := Option.some.inj (h1.symm.trans hc)
  subst hr
  obtain ⟨hSl, hfc, kC, hkC, hkind⟩ := hK.1 ci _ hc
  obtain ⟨cf, kf, fi, f, hi, hsl⟩ := hSl k hk
  have hlay := S.2.2.2.2 _ (hin _ (u_in_lay hk))
  unfold u_lay at hlay
  rw [if_neg (by rw [hfin]; decide)] at hlay
  have hst := (u_facts hfc hkC (u_lays S.2.2.2.2 hin hk) hi).1
  have h6 := u_store hfc hkC hkind hlay hi (hty k hk) hn hfit
  refine W.putK S.1 S.2.1 (f := f) ⟨S.2.2.2.1, S.2.2.2.2 _ hlink, ⟨_, _, _, hsame _ hi⟩, hst⟩ (by rw [q2]; exact h6) q1 q3 (by rw [hsl]; exact k2_hasslot (q4 k hk)) rfl rfl hdg fun H' e1 e2 e3 => ?_
  rw [hsl] at e1 ⊢
  refine kk H' _ ⟨_, hc, t_OB.to (V := updV (vp_V fs) k v) ⟨_, e1, q2, q3, t_set q4 hap hk v⟩ (fun j _ => ?_)⟩ e2 e3 (hS.put e2 e3 hA)
  rw [vp_updV_set hl v j, hfs]
theorem r_putF (S : CallFix p m c cc nL s a lw_all own) {ref C : String} {T : u_T} {N ci index : Nat} {fs fs' : List Value} (hat : va_at D cl (ad, .inr (ci, fs)) H) (hK : va_K D cl tys s) (hin : ∀ w ∈ u_ws C T N, w ∈ lw_all) (ty0 : Nat → FieldType) (hty : ∀ k, k < N → parseFieldDescriptor (T k).2.2.1 = some (ty0 k)) (hnm : ∀ a, a < N → ∀ b, b < N → a ≠ b → (T a).2.1 ≠ (T b).2.1) (hc : cl[ci]? = some (C, T, N)) (k : Nat) (hk : k < N) (hlink : Cond.fieldLink own index ref (T k).2.1 (T k).2.2.1 ∈ lw_all) (hsame : ∀ x, s.fieldFound? (T k).1 (T k).2.1 (T k).2.2.1 = some x → s.fieldFound? ref (T k).2.1 (T k).2.2.1 = some x) (hfin : (T k).2.2.2 = true) (hin2 : meth.name = "<init>") (hdecl : (T k).1 = own) {v : Value} (hn : narrow (ty0 k) v = v) (hfit : fits (ty0 k) v = true) (hl : k < fs.length) (hfs : fs.set k v = fs') (hdg : decode cc pc = .ok (.putfield index, 3)) (hS : Sx A s H locs) (hA : A ad ∨ s.heap.size ≤ ad)
    (kk : ∀ (H1 : Heap) (locs1 : List Loc), va_at D cl (ad, .inr (ci, fs')) H1 → H1.size = H.size → (∀ q, q ≠ ad → H1[q]? = H[q]?) → Sx A s H1 locs1 → W p l e R s m a below meth c H1 locs1 cells slots Q (F0 m (pc + 3) ls rest)) : W p l e R s m a below meth c H locs cells slots Q (F0 m pc ls (v :: .ref ad :: rest)) := by
  have hap := va_apart (own := own) S.2.2.2.2 hin ty0 hty hnm hK hc
  obtain ⟨r, h1, cell, q1, q2, q3, q4⟩ := hat
  have hr : r = (C, T, N) := Option.some.inj (h1.symm.trans hc)
  subst hr
  obtain ⟨hSl, hfc, kC, hkC, hkind⟩ := hK.1 ci _ hc
  obtain ⟨cf, kf, fi, f, hi, hsl⟩ := hSl k hk
  have hlay := S.2.2.2.2 _ (hin _ (u_in_lay hk))
  unfold u_lay at hlay
  rw [if_pos hfin] at hlay
  have hst := (u_facts hfc hkC (u_lays S.2.2.2.2 hin hk) hi).1
  have hcf : m.cls = cf := by
    obtain ⟨_, _, c', _, _, _, -, -, hf', -, -, -, hown2, -⟩ := Cond.laysFinal_spec hlay
    have e1 : c' = cf := by have := hi.symm.trans hf'; simp at this; exact this.1.symm
    rw [hdecl] at hown2
    rw [← e1]; exact Option.some.inj (S.2.2.2.1.symm.trans hown2)
  have h6 := u_fits hfc hkC hkind (Or.inr hlay) hi (hty k hk) hn hfit
  refine W.putFinK S.1 S.2.1 S.2.2.2.1 (S.2.2.2.2 _ hlink) (hsame _ hi) hst hcf hin2 (by rw [q2]; exact h6) q1 q3 (by rw [hsl]; exact k2_hasslot (q4 k hk)) rfl rfl hdg fun H' e1 e2 e3 => ?_
  rw [hsl] at e1 ⊢
  refine kk H' _ ⟨_, hc, t_OB.to (V := updV (vp_V fs) k v) ⟨_, e1, q2, q3, t_set q4 hap hk v⟩ (fun j _ => ?_)⟩ e2 e3 (hS.put e2 e3 hA)
  rw [vp_updV_set hl v j, hfs]
theorem r_iald (S : CallFix p m c cc nL s a lw_all own) {cA : ClassId} {n : Nat} {f : Nat → Int32} (hat : va_at D cl (ad, .inl (cA, n, .inl f)) H) (hK : va_K D cl tys s) (t0 : Nat) (ht : tys[t0]? = some (cA, .int)) {i : Nat} (hi : i < n) (hn : n < 2 ^ 31) (hdg : decode cc pc = .ok (.iaload, 1))
    (kk : W p l e R s m a below meth c H locs cells slots Q (F0 m (pc + 1) ls (.int (f i) :: rest))) : W p l e R s m a below meth c H locs cells slots Q (F0 m pc ls (.int (nI i) :: .ref ad :: rest)) :=
  va_iald (D := D) (cl := cl) (tys := tys) (ws := [(ad, .inl (cA, n, .inl f))]) S.1 S.2.1 hK (at_P hat) 0 t0 rfl ht (vp_in_nI hi hn) hdg (by rw [nI_clamp (Nat.lt_trans hi hn)]; exact kk)
theorem r_zald (S : CallFix p m c cc nL s a lw_all own) {cA : ClassId} {n : Nat} {f : Nat → Int32} (hat : va_at D cl (ad, .inl (cA, n, .inl f)) H) (hK : va_K D cl tys s) (t0 : Nat) (ht : tys[t0]? = some (cA, .boolean)) {i : Nat} (hi : i < n) (hn : n < 2 ^ 31) (hdg : decode cc pc = .ok (.baload, 1))
    (kk : W p l e R s m a below meth c H locs cells slots Q (F0 m (pc + 1) ls (.int (f i) :: rest))) : W p l e R s m a below meth c H locs cells slots Q (F0 m pc ls (.int (nI i) :: .ref ad :: rest)) :=
  va_zald (D := D) (cl := cl) (tys := tys) (ws := [(ad, .inl (cA, n, .inl f))]) S.1 S.2.1 hK (at_P hat) 0 t0 rfl ht (vp_in_nI hi hn) hdg (by rw [nI_clamp (Nat.lt_trans hi hn)]; exact kk)
theorem r_iast (S : CallFix p m c cc nL s a lw_all own) {cA : ClassId} {n : Nat} {f : Nat → Int32} (hat : va_at D cl (ad, .inl (cA, n, .inl f)) H) (hK : va_K D cl tys s) (t0 : Nat) (ht : tys[t0]? = some (cA, .int)) {i : Nat} {x : Int32} (hi : i < n) (hn : n < 2 ^ 31) (hdg : decode cc pc = .ok (.iastore, 1)) (hS : Sx A s H locs) (hA : A ad ∨ s.heap.size ≤ ad)
    (kk : ∀ (H1 : Heap) (locs1 : List Loc), va_at D cl (ad, .inl (cA, n, .inl (upd f i x))) H1 → H1.size = H.size → (∀ q, q ≠ ad → H1[q]? = H[q]?) → Sx A s H1 locs1 → W p l e R s m a below meth c H1 locs1 cells slots Q (F0 m (pc + 1) ls rest)) : W p l e R s m a below meth c H locs cells slots Q (F0 m pc ls (.int x :: .int (nI i) :: .ref ad :: rest)) := by
  have hc := nI_clamp (Nat.lt_trans hi hn)
  refine W.iast S.1 S.2.1 hat ((hK.2 t0 _ ht).1 n (fun j => .int (f j))) (fun q => by cases q) (by show ¬ (nI i < 0 ∨ (arrV _ _ _).slots.size ≤ _); rw [arrV_size]; exact nI_in hi hn) rfl rfl hdg fun H1 e z oq => ?_
  refine kk H1 _ ?_ z oq (hS.put z oq hA)
  show H1[ad]? = some (vp_cell _ _)
  rw [e, vp_cell_i, vp_cell_i, arrV_store, hc]
  congr 2
  funext q
  by_cases hq : q = i
  · subst hq
    simp [updV, upd]
  · simp [updV, upd, hq]
theorem r_zast (S : CallFix p m c cc nL s a lw_all own) {cA : ClassId} {n : Nat} {f : Nat → Int32} (hat : va_at D cl (ad, .inl (cA, n, .inl f)) H) (hK : va_K D cl tys s) (t0 : Nat) (ht : tys[t0]? = some (cA, .boolean)) {i : Nat} {x : Bool} (hi : i < n) (hn : n < 2 ^ 31) (hdg : decode cc pc = .ok (.bastore, 1)) (hS : Sx A s H locs) (hA : A ad ∨ s.heap.size ≤ ad)
    (kk : ∀ (H1 : Heap) (locs1 : List Loc), va_at D cl (ad, .inl (cA, n, .inl (upd f i (nI x.toNat)))) H1 → H1.size = H.size → (∀ q, q ≠ ad → H1[q]? = H[q]?) → Sx A s H1 locs1 → W p l e R s m a below meth c H1 locs1 cells slots Q (F0 m (pc + 1) ls rest)) : W p l e R s m a below meth c H locs cells slots Q (F0 m pc ls (.int (nI x.toNat) :: .int (nI i) :: .ref ad :: rest)) := by
  have hc := nI_clamp (Nat.lt_trans hi hn)
  refine W.zast S.1 S.2.1 hat ((hK.2 t0 _ ht).1 n (fun j => .int (f j))) (fun q => by cases q) (by show ¬ (nI i < 0 ∨ (arrV _ _ _).slots.size ≤ _); rw [arrV_size]; exact nI_in hi hn) rfl rfl hdg fun H1 e z oq => ?_
  refine kk H1 _ ?_ z oq (hS.put z oq hA)
  show H1[ad]? = some (vp_cell _ _)
  rw [e, vp_cell_i, vp_cell_i, nar_b, arrV_store, hc]
  congr 2
  funext q
  by_cases hq : q = i
  · subst hq
    simp [updV, upd]
  · simp [updV, upd, hq]
theorem r_alen (S : CallFix p m c cc nL s a lw_all own) {cA : ClassId} {x : vp_A} (hat : va_at D cl (ad, .inl (cA, x)) H) (hK : va_K D cl tys s) (t0 : Nat) {ty : FieldType} (ht : tys[t0]? = some (cA, ty)) (hdg : decode cc pc = .ok (.arraylength, 1))
    (kk : W p l e R s m a below meth c H locs cells slots Q (F0 m (pc + 1) ls (.int (nI x.1) :: rest))) : W p l e R s m a below meth c H locs cells slots Q (F0 m pc ls (.ref ad :: rest)) :=
  va_alen (D := D) (cl := cl) (tys := tys) (ws := [(ad, .inl (cA, x))]) S.1 S.2.1 hK (at_P hat) 0 t0 rfl ht rfl hdg kk
theorem r_recv {q : vw_C} {ci : Nat} {fs : List Value} (hat : va_at D cl (ad, .inr (ci, fs)) H) (hK : va_K D cl tys s) (hc : cl[ci]? = some q) : ∃ cell : Cell, H[ad]? = some cell ∧ cell.vm.isStatics = false ∧ s.vm.findClass q.1 = some cell.cls := va_recv hK (at_P hat) hc (q0 := 0) rfl
end RW
/-! the classes of all worlds, by their places; the arrays' classes, by theirs -/
abbrev clA : List vw_C := [(RX1, TX1, 3), (RX2, TX2, 26), (RJ1, TJ1, 3), (RJ3, TJ3, 3), (RJ5, TJ5, 4), (RJ14, TJ14, 3), (RX13, TX13, 4), (RX11, TX11, 3), (RX6, TX6, 2), (RX5, TX5, 1), (RX10, TX10, 2), (RX8, TX8, 2), (RX9, TX9, 2), (RX12, TX12, 3), (RJ28, TJ28, 3), (RX3, TX3, 4), (RX14, TX14, 9), (RX4, TX4, 7), (RJ11, TJ11, 1), (RJ21, TJ21, 1), (RJ15, TJ15, 4)]
abbrev tyA (dA : Nat → ClassId) : List (ClassId × FieldType) := [(dA 0, .int), (dA 1, .boolean), (dA 2, .long), (dA 3, .double), (dA 4, .object "java/lang/Object"), (dA 5, .object "java/lang/String"), (dA 6, .array .int), (dA 7, .object "java/lang/Character"), (dA 8, .object "java/lang/Integer"), (dA 9, .byte)]
/-! the reference's object and its arrays -/
/-- its scalars by the places of their fields, its arrays by the places of theirs -/
abbrev MS : Type := (Nat → Nat) × (Nat → Nat → Nat)
def mSc (k : Nat) : Bool := k == 0 || k == 2 || k == 3 || k == 15 || k == 16 || k == 17 || k == 20
def mAr (k : Nat) : Bool := decide (k < 26) && !(mSc k)
def mN (k : Nat) : Nat := if k = 1 then 40 else if k ≤ 6 then 240 else if k = 8 then 48 else if k ≤ 14 then 6 else if k ≤ 19 then 40 else if k ≤ 24 then 16 else 128
def mT (k : Nat) : Nat := if k = 19 then 1 else if k = 24 then 1 else 0
def sF (M : MS) (k v : Nat) : MS := (fun j => bif Nat.beq j k then v else M.1 j, M.2)
def sA (M : MS) (k i v : Nat) : MS := (M.1, fun j => bif Nat.beq j k then (fun x => if x = i then v else M.2 j x) else M.2 j)
def mF (a : Nat → Nat) (M : MS) : List Value := [.int (nI (M.1 0)), .ref (a 1), .int (nI (M.1 2)), .int (nI (M.1 3)), .ref (a 4), .ref (a 5), .ref (a 6), .ref (a 7), .ref (a 8), .ref (a 9), .ref (a 10), .ref (a 11), .ref (a 12), .ref (a 13), .ref (a 14), .int (nI (M.1 15)), .int (nI (M.1 16)), .int (nI (M.1 17)), .ref (a 18), .ref (a 19), .int (nI (M.1 20)), .ref (a 21), .ref (a 22), .ref (a 23), .ref (a 24), .ref (a 25)]
def mA (a : Nat → Nat) (q : Nat) : Prop := q = a 0 ∨ ∃ k, mAr k = true ∧ q = a k
def mD (a : Nat → Nat) : Prop := (∀ k, mAr k = true → a k ≠ a 0) ∧ ∀ j k, mAr j = true → mAr k = true → a j = a k → j = k
def mP (D : va_G) (dA : Nat → ClassId) (a : Nat → Nat) (M : MS) (H : Heap) : Prop := va_at D clA (a 0, .inr (1, mF a M)) H ∧ ∀ k, mAr k = true → va_at D clA (a k, .inl (dA (mT k), mN k, .inl (fun j => nI (M.2 k j)))) H
theorem mP.kept {D : va_G} {dA : Nat → ClassId} {a : Nat → Nat} {M : MS} {H H1 : Heap} (h : mP D dA a M H) (hq : ∀ q, q < H.size → mA a q → H1[q]? = H[q]?) : mP D dA a M H1 :=
  ⟨h.1.kept (hq _ h.1.lt (Or.inl rfl)), fun k hk => (h.2 k hk).kept (hq _ (h.2 k hk).lt (Or.inr ⟨k, hk, rfl⟩))⟩
theorem mN_lt (k : Nat) : mN k < 2 ^ 31 := by
  unfold mN
  repeat' split
  all_goals decide
theorem sF_sc (a : Nat → Nat) (M : MS) (v : Nat) : ∀ k, mSc k = true → (mF a M).set k (.int (nI v)) = mF a (sF M k v) := by
  intro k hk
  have : k = 0 ∨ k = 2 ∨ k = 3 ∨ k = 15 ∨ k = 16 ∨ k = 17 ∨ k = 20 := by
    simp [mSc] at hk
    omega
  rcases this with rfl | rfl | rfl | rfl | rfl | rfl | rfl <;> rfl
abbrev Kn (D : va_G) (dA : Nat → ClassId) (s : State) : Prop := va_K D clA (tyA dA) s
theorem Kn.blind (D : va_G) (dA : Nat → ClassId) : Blind (Kn D dA) := fun U _ _ _ h => va_K.moved (Vm.Alike.refl U.vm) h
theorem Kn.at {D : va_G} {dA : Nat → ClassId} {s : State} (h : Kn D dA s) (H : Heap) : ∀ U : State, U.heap = H → s.WarmedH U.vm → Kn D dA U := fun _ _ hW => va_K.moved hW.alike h
theorem Sx.same {A : Nat → Prop} {s : State} {H H1 : Heap} {locs : List Loc} (h : Sx A s H locs) (e : H1 = H) : Sx A s H1 locs := by rw [e]; exact h
section MW
variable {p : Program} {l : Launch} {e : Env} {R : Room} {s : State} {m : MethodId} {a : Array Value} {below : List Frame} {meth : Method} {c : Code} {H : Heap} {locs : List Loc} {cells slots : Nat} {Q : State → Prop}
variable {cc : ByteArray} {pc nL : Nat} {ls : Array Slot} {rest : List Value} {D : va_G} {dA : Nat → ClassId} {b : Nat → Nat} {M : MS} {A : Nat → Prop}
theorem m_get (S : CallFix p m c cc nL s a lw_all RX2) (hM : mP D dA b M H) (hK : Kn D dA s) {index : Nat} (k : Nat) (hk : k < 26) (hlink : Cond.fieldLink RX2 index RX2 (TX2 k).2.1 (TX2 k).2.2.1 ∈ lw_all) (hr : (TX2 k).1 = RX2) {v : Value} (hv : (mF b M)[k]? = some v) (hdg : decode cc pc = .ok (.getfield index, 3))
    (kk : W p l e R s m a below meth c H locs cells slots Q (F0 m (pc + 3) ls (v :: rest))) : W p l e R s m a below meth c H locs cells slots Q (F0 m pc ls (.ref (b 0) :: rest)) :=
  r_get S (C := RX2) (T := TX2) (N := 26) hM.1 hK in_X2 rfl k hk hlink (fun x hx => by rw [hr] at hx; exact hx) hv hdg kk
theorem m_put (S : CallFix p m c cc nL s a lw_all RX2) (hM : mP D dA b M H) (hK : Kn D dA s) (hD : mD b) {index : Nat} (k : Nat) (hsc : mSc k = true) (hk : k < 26) (hlink : Cond.fieldLink RX2 index RX2 (TX2 k).2.1 (TX2 k).2.2.1 ∈ lw_all) (hr : (TX2 k).1 = RX2) (hfin : (TX2 k).2.2.2 = false) {v : Nat} (hn : narrow (tyX2 k) (.int (nI v)) = .int (nI v)) (hfit : fits (tyX2 k) (.int (nI v)) = true) (hdg : decode cc pc = .ok (.putfield index, 3)) (hS : Sx A s H locs) (hA : ∀ q, mA b q → A q ∨ s.heap.size ≤ q)
    (kk : ∀ (H1 : Heap) (locs1 : List Loc), mP D dA b (sF M k v) H1 → H1.size = H.size → (∀ q, ¬ mA b q → H1[q]? = H[q]?) → Sx A s H1 locs1 → W p l e R s m a below meth c H1 locs1 cells slots Q (F0 m (pc + 3) ls rest)) : W p l e R s m a below meth c H locs cells slots Q (F0 m pc ls (.int (nI v) :: .ref (b 0) :: rest)) :=
  r_put S (C := RX2) (T := TX2) (N := 26) hM.1 hK in_X2 tyX2 tyX2_ok nmX2 rfl k hk hlink (fun x hx => by rw [hr] at hx; exact hx) hfin hn hfit (show k < 26 from hk) (sF_sc b M v k hsc) hdg hS (hA _ (Or.inl rfl)) fun H1 locs1 h1 h2 h3 h4 =>
    kk H1 locs1 ⟨h1, fun j hj => (hM.2 j hj).kept (h3 _ (hD.1 j hj))⟩ h2 (fun q hq => h3 q (fun z => hq (Or.inl z))) h4
theorem m_ald (S : CallFix p m c cc nL s a lw_all RX2) (hM : mP D dA b M H) (hK : Kn D dA s) (k : Nat) (hk : mAr k = true) (hty : mT k = 0) {i v : Nat} (hi : i < mN k) (hv : M.2 k i = v) (hdg : decode cc pc = .ok (.iaload, 1))
    (kk : W p l e R s m a below meth c H locs cells slots Q (F0 m (pc + 1) ls (.int (nI v) :: rest))) : W p l e R s m a below meth c H locs cells slots Q (F0 m pc ls (.int (nI i) :: .ref (b k) :: rest)) :=
  r_iald S (hM.2 k hk) hK 0 (by rw [hty]; rfl) hi (mN_lt k) hdg (by rw [hv]; exact kk)
theorem m_zald (S : CallFix p m c cc nL s a lw_all RX2) (hM : mP D dA b M H) (hK : Kn D dA s) (k : Nat) (hk : mAr k = true) (hty : mT k = 1) {i v : Nat} (hi : i < mN k) (hv : M.2 k i = v) (hdg : decode cc pc = .ok (.baload, 1))
    (kk : W p l e R s m a below meth c H locs cells slots Q (F0 m (pc + 1) ls (.int (nI v) :: rest))) : W p l e R s m a below meth c H locs cells slots Q (F0 m pc ls (.int (nI i) :: .ref (b k) :: rest)) :=
  r_zald S (hM.2 k hk) hK 1 (by rw [hty]; rfl) hi (mN_lt k) hdg (by rw [hv]; exact kk)
theorem mP.arr (hM : mP D dA b M H) (hD : mD b) (k : Nat) (hk : mAr k = true) {H1 : Heap} {i v : Nat} (h : va_at D clA (b k, .inl (dA (mT k), mN k, .inl (upd (fun j => nI (M.2 k j)) i (nI v)))) H1) (ho : ∀ q, q ≠ b k → H1[q]? = H[q]?) : mP D dA b (sA M k i v) H1 := by
  refine ⟨hM.1.kept (ho _ (Ne.symm (hD.1 k hk))), fun j hj => ?_⟩
  by_cases hjk : j = k
  · subst hjk
    have e : (fun x => nI ((sA M j i v).2 j x)) = upd (fun x => nI (M.2 j x)) i (nI v) := by
      funext x
      have : Nat.beq j j = true := Nat.beq_refl j
      simp only [sA, this, cond_true, upd]
      by_cases hx : x = i
      · simp [hx]
      · simp [hx]
    rw [e]
    exact h
  · have e : (sA M k i v).2 j = M.2 j := by
      have : Nat.beq j k = false := by rw [← Bool.not_eq_true]; exact fun z => hjk (Nat.eq_of_beq_eq_true z)
      simp only [sA, this, cond_false]
    rw [e]
    exact (hM.2 j hj).kept (ho _ (fun z => hjk (hD.2 j k hj hk z)))
theorem m_ast (S : CallFix p m c cc nL s a lw_all RX2) (hM : mP D dA b M H) (hK : Kn D dA s) (hD : mD b) (k : Nat) (hk : mAr k = true) (hty : mT k = 0) {i v : Nat} (hi : i < mN k) (hdg : decode cc pc = .ok (.iastore, 1)) (hS : Sx A s H locs) (hA : ∀ q, mA b q → A q ∨ s.heap.size ≤ q)
    (kk : ∀ (H1 : Heap) (locs1 : List Loc), mP D dA b (sA M k i v) H1 → Sx A s H1 locs1 → W p l e R s m a below meth c H1 locs1 cells slots Q (F0 m (pc + 1) ls rest)) : W p l e R s m a below meth c H locs cells slots Q (F0 m pc ls (.int (nI v) :: .int (nI i) :: .ref (b k) :: rest)) :=
  r_iast S (hM.2 k hk) hK 0 (by rw [hty]; rfl) hi (mN_lt k) hdg hS (hA _ (Or.inr ⟨k, hk, rfl⟩)) fun H1 locs1 h1 _ h3 h4 => kk H1 locs1 (hM.arr hD k hk h1 h3) h4
theorem m_zast (S : CallFix p m c cc nL s a lw_all RX2) (hM : mP D dA b M H) (hK : Kn D dA s) (hD : mD b) (k : Nat) (hk : mAr k = true) (hty : mT k = 1) {i : Nat} {v : Bool} (hi : i < mN k) (hdg : decode cc pc = .ok (.bastore, 1)) (hS : Sx A s H locs) (hA : ∀ q, mA b q → A q ∨ s.heap.size ≤ q)
    (kk : ∀ (H1 : Heap) (locs1 : List Loc), mP D dA b (sA M k i v.toNat) H1 → Sx A s H1 locs1 → W p l e R s m a below meth c H1 locs1 cells slots Q (F0 m (pc + 1) ls rest)) : W p l e R s m a below meth c H locs cells slots Q (F0 m pc ls (.int (nI v.toNat) :: .int (nI i) :: .ref (b k) :: rest)) :=
  r_zast S (hM.2 k hk) hK 1 (by rw [hty]; rfl) hi (mN_lt k) hdg hS (hA _ (Or.inr ⟨k, hk, rfl⟩)) fun H1 locs1 h1 _ h3 h4 => kk H1 locs1 (hM.arr hD k hk h1 h3) h4
end MW
/-- contracts: a pure static method; a reader of the reference's cells; a writer of them -/
def pS (l : Launch) (y : MethodName) (cc : ByteArray) (maxL : Nat) (ty : FieldType) (rm : Room) (As : List Value) (r : Int32) : Prop := Ctr (fun _ => True) l y cc maxL (some ty) rm As (fun _ => True) (fun H v H1 => v = some (.int r) ∧ H = H1) (fun _ => False)
def mS (D : va_G) (dA : Nat → ClassId) (b : Nat → Nat) (l : Launch) (y : MethodName) (cc : ByteArray) (maxL : Nat) (ty : FieldType) (rm : Room) (M : MS) (As : List Value) (r : Int32) : Prop := Ctr (Kn D dA) l y cc maxL (some ty) rm (.ref (b 0) :: As) (fun H => mP D dA b M H) (fun H v H1 => v = some (.int r) ∧ H = H1) (fun _ => False)
def mM (D : va_G) (dA : Nat → ClassId) (b : Nat → Nat) (l : Launch) (y : MethodName) (cc : ByteArray) (maxL : Nat) (ret : Option FieldType) (rm : Room) (M : MS) (As : List Value) (r : Option Value) (M' : MS) : Prop := Ctr (Kn D dA) l y cc maxL ret rm (.ref (b 0) :: As) (fun H => mP D dA b M H) (fun _ v H1 => v = r ∧ mP D dA b M' H1) (mA b)
section MC
variable {p : Program} {l : Launch} {e : Env} {R : Room} {s : State} {m : MethodId} {a : Array Value} {below : List Frame} {meth : Method} {c : Code} {H : Heap} {locs : List Loc} {cells slots : Nat} {Q : State → Prop}
variable {cc : ByteArray} {pc nL : Nat} {ls : Array Slot} {D : va_G} {dA : Nat → ClassId} {b : Nat → Nat} {M : MS} {A : Nat → Prop} {own : String}
theorem m_cS (S : CallFix p m c cc nL s a lw_all own) {y : MethodName} {c2 : ByteArray} {maxL index : Nat} {ty : FieldType} {rm : Room} {As st rest : List Value} {r : Int32} (hM : pS l y c2 maxL ty rm As r) (hq : GoodIn lw_all (va_wsS own index y (ws_ y c2 maxL (some ty)))) (hd : y.cls ≠ "java/lang/invoke/MethodHandle" ∧ y.cls ≠ "java/lang/invoke/VarHandle" ∧ (parseMethodDescriptor y.desc).map (fun d => d.parameters.length) = some As.length) (hR : rm.frames + 1 ≤ R.frames ∧ 8 + (maxL + 11) + rm.locals ≤ R.locals) (hz : rm.cells = 0 ∧ rm.slots = 0) (hl : ls.size = nL) (hst : st = As.reverse ++ rest) (hcat : (rest.map fun v => v.category).sum ≤ 8) (hdg : decode cc pc = .ok (.invokestatic index, 3)) (hf : cells ≤ R.cells ∧ slots ≤ R.slots) (hS : Sx A s H locs)
    (kk : ∀ (locs1 : List Loc), Sx A s H locs1 → W p l e R s m a below meth c H locs1 cells slots Q (F0 m (pc + 3) ls (.int r :: rest))) : W p l e R s m a below meth c H locs cells slots Q (F0 m pc ls st) := by
  refine r_callS S hM hq hd hR (fun _ _ _ _ _ => trivial) (fun _ _ _ => trivial) trivial hl hst hcat hdg (by rw [hz.1, hz.2]; exact hf) hS (fun _ h => h.elim) fun v H1 locs1 hp _ _ hS => ?_
  obtain ⟨rfl, e⟩ := hp
  subst e
  rw [hz.1, hz.2]
  exact kk locs1 hS
theorem m_cV (S : CallFix p m c cc nL s a lw_all RX2) {y : MethodName} {c2 : ByteArray} {maxL index : Nat} {ty : FieldType} {rm : Room} {As st rest : List Value} {r : Int32} (hM : mS D dA b l y c2 maxL ty rm M As r) (hq : GoodIn lw_all (wsV RX2 index RX2 y (ws_ y c2 maxL (some ty)))) (hd : y.cls = RX2 ∧ y.cls ≠ "java/lang/invoke/MethodHandle" ∧ y.cls ≠ "java/lang/invoke/VarHandle" ∧ (parseMethodDescriptor y.desc).map (fun d => d.parameters.length) = some As.length) (hR : rm.frames + 1 ≤ R.frames ∧ 8 + (maxL + 11) + rm.locals ≤ R.locals) (hz : rm.cells = 0 ∧ rm.slots = 0) (hK : Kn D dA s) (hP : mP D dA b M H) (hl : ls.size = nL) (hst : st = As.reverse ++ .ref (b 0) :: rest) (hcat : (rest.map fun v => v.category).sum ≤ 8) (hdg : decode cc pc = .ok (.invokevirtual index, 3)) (hf : cells ≤ R.cells ∧ slots ≤ R.slots) (hS : Sx A s H locs)
    (kk : ∀ (locs1 : List Loc), Sx A s H locs1 → W p l e R s m a below meth c H locs1 cells slots Q (F0 m (pc + 3) ls (.int r :: rest))) : W p l e R s m a below meth c H locs cells slots Q (F0 m pc ls st) := by
  refine r_callV S hM hq hd hR (r_recv hP.1 hK rfl) (Kn.blind D dA) (hK.at H) hP hl hst hcat hdg (by rw [hz.1, hz.2]; exact hf) hS (fun _ h => h.elim) fun v H1 locs1 hp _ _ hS => ?_
  obtain ⟨rfl, e⟩ := hp
  subst e
  rw [hz.1, hz.2]
  exact kk locs1 hS
theorem m_cM (S : CallFix p m c cc nL s a lw_all RX2) {y : MethodName} {c2 : ByteArray} {maxL index : Nat} {ret : Option FieldType} {rm : Room} {As st rest : List Value} {r : Option Value} {M' : MS} (hM : mM D dA b l y c2 maxL ret rm M As r M') (hq : GoodIn lw_all (wsV RX2 index RX2 y (ws_ y c2 maxL ret))) (hd : y.cls = RX2 ∧ y.cls ≠ "java/lang/invoke/MethodHandle" ∧ y.cls ≠ "java/lang/invoke/VarHandle" ∧ (parseMethodDescriptor y.desc).map (fun d => d.parameters.length) = some As.length) (hR : rm.frames + 1 ≤ R.frames ∧ 8 + (maxL + 11) + rm.locals ≤ R.locals) (hz : rm.cells = 0 ∧ rm.slots = 0) (hK : Kn D dA s) (hP : mP D dA b M H) (hl : ls.size = nL) (hst : st = As.reverse ++ .ref (b 0) :: rest) (hcat : (rest.map fun v => v.category).sum ≤ 8) (hdg : decode cc pc = .ok (.invokevirtual index, 3)) (hf : cells ≤ R.cells ∧ slots ≤ R.slots) (hS : Sx A s H locs) (hA : ∀ q, mA b q → A q ∨ s.heap.size ≤ q)
    (kk : ∀ (H1 : Heap) (locs1 : List Loc), mP D dA b M' H1 → Sx A s H1 locs1 → W p l e R s m a below meth c H1 locs1 cells slots Q (F0 m (pc + 3) ls (r.toList ++ rest))) : W p l e R s m a below meth c H locs cells slots Q (F0 m pc ls st) := by
  refine r_callV S hM hq hd hR (r_recv hP.1 hK rfl) (Kn.blind D dA) (hK.at H) hP hl hst hcat hdg (by rw [hz.1, hz.2]; exact hf) hS hA fun v H1 locs1 hp _ _ hS => ?_
  obtain ⟨rfl, hP1⟩ := hp
  rw [hz.1, hz.2]
  exact kk H1 locs1 hP1 hS
end MC
theorem tb_eq (x k : Nat) : decide ((x >>> k) &&& 1 = 1) = x.testBit k := by
  rw [Nat.testBit, Nat.and_comm]
  rcases Nat.mod_two_eq_zero_or_one (x >>> k) with h | h
  · simp [h]
  · simp [h]
/-! more of the reference: replaced arrays, states alike in all that is looked at -/
def sR (M : MS) (k : Nat) (f : Nat → Nat) : MS := (M.1, fun j => bif Nat.beq j k then f else M.2 j)
theorem mSc_cases {k : Nat} (h : mSc k = true) : k = 0 ∨ k = 2 ∨ k = 3 ∨ k = 15 ∨ k = 16 ∨ k = 17 ∨ k = 20 := by
  simp [mSc] at h
  omega
theorem mAr_cases {k : Nat} (h : mAr k = true) : k = 1 ∨ k = 4 ∨ k = 5 ∨ k = 6 ∨ k = 7 ∨ k = 8 ∨ k = 9 ∨ k = 10 ∨ k = 11 ∨ k = 12 ∨ k = 13 ∨ k = 14 ∨ k = 18 ∨ k = 19 ∨ k = 21 ∨ k = 22 ∨ k = 23 ∨ k = 24 ∨ k = 25 := by
  simp [mAr, mSc] at h
  omega
theorem mP.to {D : va_G} {dA : Nat → ClassId} {a : Nat → Nat} {M M' : MS} {H : Heap} (h : mP D dA a M H) (h1 : ∀ k, mSc k = true → M'.1 k = M.1 k) (h2 : ∀ k, mAr k = true → M'.2 k = M.2 k) : mP D dA a M' H := by
  refine ⟨?_, fun k hk => by rw [h2 k hk]; exact h.2 k hk⟩
  have e : mF a M' = mF a M := by
    unfold mF
    rw [h1 0 rfl, h1 2 rfl, h1 3 rfl, h1 15 rfl, h1 16 rfl, h1 17 rfl, h1 20 rfl]
  rw [e]
  exact h.1
/-- a contract whose end is any picture of the reference -/
def mE (D : va_G) (dA : Nat → ClassId) (b : Nat → Nat) (l : Launch) (y : MethodName) (cc : ByteArray) (maxL : Nat) (ret : Option FieldType) (rm : Room) (M : MS) (As : List Value) (r : Option Value) (PM : Heap → Prop) : Prop := Ctr (Kn D dA) l y cc maxL ret rm (.ref (b 0) :: As) (fun H => mP D dA b M H) (fun _ v H1 => v = r ∧ PM H1) (mA b)
section ME
variable {p : Program} {l : Launch} {e : Env} {R : Room} {s : State} {m : MethodId} {a : Array Value} {below : List Frame} {meth : Method} {c : Code} {H : Heap} {locs : List Loc} {cells slots : Nat} {Q : State → Prop}
variable {cc : ByteArray} {pc nL : Nat} {ls : Array Slot} {rest : List Value} {D : va_G} {dA : Nat → ClassId} {b : Nat → Nat} {M : MS} {A : Nat → Prop} {own : String}
theorem m_cE (S : CallFix p m c cc nL s a lw_all RX2) {y : MethodName} {c2 : ByteArray} {maxL index : Nat} {ret : Option FieldType} {rm : Room} {As st rest : List Value} {r : Option Value} {PM : Heap → Prop} (hM : mE D dA b l y c2 maxL ret rm M As r PM) (hq : GoodIn lw_all (wsV RX2 index RX2 y (ws_ y c2 maxL ret))) (hd : y.cls = RX2 ∧ y.cls ≠ "java/lang/invoke/MethodHandle" ∧ y.cls ≠ "java/lang/invoke/VarHandle" ∧ (parseMethodDescriptor y.desc).map (fun d => d.parameters.length) = some As.length) (hR : rm.frames + 1 ≤ R.frames ∧ 8 + (maxL + 11) + rm.locals ≤ R.locals) (hz : rm.cells = 0 ∧ rm.slots = 0) (hK : Kn D dA s) (hP : mP D dA b M H) (hl : ls.size = nL) (hst : st = As.reverse ++ .ref (b 0) :: rest) (hcat : (rest.map fun v => v.category).sum ≤ 8) (hdg : decode cc pc = .ok (.invokevirtual index, 3)) (hf : cells ≤ R.cells ∧ slots ≤ R.slots) (hS : Sx A s H locs) (hA : ∀ q, mA b q → A q ∨ s.heap.size ≤ q)
    (kk : ∀ (H1 : Heap) (locs1 : List Loc), PM H1 → Sx A s H1 locs1 → W p l e R s m a below meth c H1 locs1 cells slots Q (F0 m (pc + 3) ls (r.toList ++ rest))) : W p l e R s m a below meth c H locs cells slots Q (F0 m pc ls st) := by
  refine r_callV S hM hq hd hR (r_recv hP.1 hK rfl) (Kn.blind D dA) (hK.at H) hP hl hst hcat hdg (by rw [hz.1, hz.2]; exact hf) hS hA fun v H1 locs1 hp _ _ hS => ?_
  obtain ⟨rfl, hP1⟩ := hp
  rw [hz.1, hz.2]
  exact kk H1 locs1 hP1 hS
/-- x and not y -/
def nAnd (x y : Nat) : Nat := x ^^^ (x &&& y)
theorem nAnd_test (x y i : Nat) : (nAnd x y).testBit i = (x.testBit i && !y.testBit i) := by
  rw [nAnd, Nat.testBit_xor, Nat.testBit_and]
  cases x.testBit i <;> cases y.testBit i <;> rfl
theorem nAnd_le (x y : Nat) : nAnd x y ≤ x := Nat.le_of_testBit fun i h => by
  rw [nAnd_test] at h
  simp at h
  exact h.1
theorem nI_nAnd (x y : Nat) : nI x &&& (nI y ^^^ (-1)) = nI (nAnd x y) := by
  apply b_ext
  intro i hi
  rw [b_and, b_xor, bt_nI, bt_nI, bt_nI, nAnd_test, b_m1 i hi]
  simp [hi]
theorem n_iandC (S : CallFix p m c cc nL s a lw_all own) {x y : Nat} (hdg : decode cc pc = .ok (.iand, 1)) (k : W p l e R s m a below meth c H locs cells slots Q (F0 m (pc + 1) ls (.int (nI (nAnd x y)) :: rest))) : W p l e R s m a below meth c H locs cells slots Q (F0 m pc ls (.int (nI y ^^^ (-1)) :: .int (nI x) :: rest)) := lv_iand S.1 S.2.1 hdg (by rw [nI_nAnd]; exact k)
theorem n_ldc (S : CallFix p m c cc nL s a lw_all own) {index n : Nat} {v : Int32} (hw : Cond.constant own index v ∈ lw_all) (hv : v = nI n) (hdg : decode cc pc = .ok (.ldc index, 2)) (k : W p l e R s m a below meth c H locs cells slots Q (F0 m (pc + 2) ls (.int (nI n) :: rest))) : W p l e R s m a below meth c H locs cells slots Q (F0 m pc ls rest) := lv_ldc S.1 S.2.1 S.2.2.2.1 (S.2.2.2.2 _ hw) hdg (by rw [hv]; exact k)
end ME
section RE
variable {p : Program} {l : Launch} {e : Env} {R : Room} {s : State} {m : MethodId} {a : Array Value} {below : List Frame} {meth : Method} {c : Code} {H : Heap} {locs : List Loc} {cells slots : Nat} {Q : State → Prop}
variable {cc : ByteArray} {pc nL : Nat} {ls : Array Slot} {rest : List Value} {own : String}
theorem r_dreturn (S : CallFix p m c cc nL s a lw_all own) {maxL : Nat} {rm : Room} {o2 : String} {Post : Heap → Option Value → Heap → Prop} {A : Nat → Prop} {v : UInt64} (B : Bd p s m a below meth c cc maxL (some .double) rm o2 Post A Q) (hS : Sx A s H locs) (hdg : decode cc pc = .ok (.dreturn, 1)) (hc : cells ≤ rm.cells) (hs : slots ≤ rm.slots) (hpost : Post s.heap (some (.double v)) H) :
    W p l e R s m a below meth c H locs cells slots Q (F0 m pc ls [.double v]) := by
  obtain ⟨hr, hlocks, rfl⟩ := B
  exact W.widen hc hs (W.dret S.1 S.2.1 hr (r_out (a := a) hpost hS) hS.2.2 hdg)
theorem r_freturn (S : CallFix p m c cc nL s a lw_all own) {maxL : Nat} {rm : Room} {o2 : String} {Post : Heap → Option Value → Heap → Prop} {A : Nat → Prop} {v : UInt32} (B : Bd p s m a below meth c cc maxL (some .float) rm o2 Post A Q) (hS : Sx A s H locs) (hdg : decode cc pc = .ok (.freturn, 1)) (hc : cells ≤ rm.cells) (hs : slots ≤ rm.slots) (hpost : Post s.heap (some (.float v)) H) :
    W p l e R s m a below meth c H locs cells slots Q (F0 m pc ls [.float v]) := by
  obtain ⟨hr, hlocks, rfl⟩ := B
  exact W.widen hc hs (W.fret S.1 S.2.1 hr (r_out (a := a) hpost hS) hS.2.2 hdg)
end RE
/-- alike in all that isn't scratch -/
def coreq (M M1 : MS) : Prop := (∀ k, k = 2 ∨ k = 3 ∨ k = 15 → M1.1 k = M.1 k) ∧ ∀ k, k = 1 ∨ (4 ≤ k ∧ k ≤ 14) → M1.2 k = M.2 k
theorem coreq.mk {M M1 : MS} (h2 : M1.1 2 = M.1 2) (h3 : M1.1 3 = M.1 3) (h15 : M1.1 15 = M.1 15) (a1 : M1.2 1 = M.2 1) (a4 : M1.2 4 = M.2 4) (a5 : M1.2 5 = M.2 5) (a6 : M1.2 6 = M.2 6) (a7 : M1.2 7 = M.2 7) (a8 : M1.2 8 = M.2 8) (a9 : M1.2 9 = M.2 9) (a10 : M1.2 10 = M.2 10) (a11 : M1.2 11 = M.2 11) (a12 : M1.2 12 = M.2 12) (a13 : M1.2 13 = M.2 13) (a14 : M1.2 14 = M.2 14) : coreq M M1 := by
  refine ⟨fun k hk => ?_, fun k hk => ?_⟩
  · rcases hk with rfl | rfl | rfl <;> assumption
  · rcases hk with rfl | ⟨h, g⟩
    · assumption
    · have : k = 4 ∨ k = 5 ∨ k = 6 ∨ k = 7 ∨ k = 8 ∨ k = 9 ∨ k = 10 ∨ k = 11 ∨ k = 12 ∨ k = 13 ∨ k = 14 := by omega
      rcases this with rfl | rfl | rfl | rfl | rfl | rfl | rfl | rfl | rfl | rfl | rfl <;> assumption
/-- a call of the reference from outside: what it answers, what it says was thrown, what it is then -/
def mQ (D : va_G) (dA : Nat → ClassId) (b : Nat → Nat) (l : Launch) (y : MethodName) (cc : ByteArray) (maxL : Nat) (ret : Option FieldType) (rm : Room) (M : MS) (As : List Value) (r : Option Value) (th : Nat) (M2 : MS) : Prop := mE D dA b l y cc maxL ret rm M As r (fun H1 => ∃ M1 : MS, M1.1 0 = th ∧ coreq M2 M1 ∧ mP D dA b M1 H1)
