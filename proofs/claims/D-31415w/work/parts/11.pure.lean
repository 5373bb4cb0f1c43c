set_option maxRecDepth 100000
/-! PURE: what the reference's methods compute -/
def anyTo (f : Nat → Bool) : Nat → Bool
  | 0 => false
  | n + 1 => anyTo f n || f n
def cntTo (f : Nat → Bool) : Nat → Nat
  | 0 => 0
  | n + 1 => cntTo f n + (f n).toNat
theorem cntTo_shift (f : Nat → Bool) (n : Nat) : cntTo f (n + 1) = (f 0).toNat + cntTo (fun i => f (i + 1)) n := by
  induction n with
  | zero => simp [cntTo]
  | succ n ih => rw [cntTo, ih, cntTo]; omega
theorem cntTo_congr {f g : Nat → Bool} {n : Nat} (h : ∀ i, i < n → f i = g i) : cntTo f n = cntTo g n := by
  induction n with
  | zero => rfl
  | succ n ih => rw [cntTo, cntTo, ih (fun i hi => h i (by omega)), h n (by omega)]
theorem cntTo_le (f : Nat → Bool) (n : Nat) : cntTo f n ≤ n := by
  induction n with
  | zero => exact Nat.le_refl _
  | succ n ih => rw [cntTo]; have : (f n).toNat ≤ 1 := Bool.toNat_le _; omega
/-- how many bits a number below 2^32 has -/
def popc (x : Nat) : Nat := cntTo (Nat.testBit x) 32
theorem popc_le (x : Nat) : popc x ≤ 32 := cntTo_le _ _
theorem low_step : ∀ (n x : Nat), 0 < x → x < 2 ^ n → cntTo (Nat.testBit (x &&& (x - 1))) n + 1 = cntTo (Nat.testBit x) n := by
  intro n
  induction n with
  | zero => intro x h1 h2; simp at h2; omega
  | succ n ih =>
    intro x h1 h2
    rw [cntTo_shift, cntTo_shift]
    have hb : ∀ z : Nat, (fun i => Nat.testBit z (i + 1)) = Nat.testBit (z / 2) := fun z => funext fun i => Nat.testBit_succ z i
    rw [hb, hb]
    have hq : (x &&& (x - 1)) / 2 = (x / 2) &&& ((x - 1) / 2) := by
      apply Nat.eq_of_testBit_eq
      intro i
      rw [← Nat.testBit_succ, Nat.testBit_and, Nat.testBit_and, ← Nat.testBit_succ, ← Nat.testBit_succ]
    rw [hq, Nat.testBit_and]
    rcases Nat.mod_two_eq_zero_or_one x with hx | hx
    · have e1 : (x - 1) / 2 = x / 2 - 1 := by omega
      have e2 : x.testBit 0 = false := by rw [Nat.testBit_zero]; simp [hx]
      rw [e1, e2, Bool.false_and]
      have := ih (x / 2) (by omega) (by rw [Nat.pow_succ] at h2; omega)
      simp only [Bool.toNat_false]
      omega
    · have e1 : (x - 1) / 2 = x / 2 := by omega
      have e2 : x.testBit 0 = true := by rw [Nat.testBit_zero]; simp [hx]
      have e3 : (x - 1).testBit 0 = false := by rw [Nat.testBit_zero]; simp; omega
      rw [e1, e2, e3, Nat.and_self]
      simp only [Bool.toNat_false, Bool.toNat_true, Bool.and_false]
      omega
theorem popc_step {x : Nat} (h : 0 < x) (h2 : x < 2 ^ 32) : popc (x &&& (x - 1)) + 1 = popc x := low_step 32 x h h2
theorem popc_zero : popc 0 = 0 := by decide
theorem and_pred_lt {x : Nat} (h : 0 < x) : x &&& (x - 1) < x := Nat.lt_of_le_of_lt Nat.and_le_right (by omega)
/-- a number below n, as an int: its test -/
def inR (n : Nat) (d : Int32) : Bool := decide (nI 0 ≤ d) && decide (d ≤ nI n - nI 1)
theorem inR_iff {n : Nat} (hn : n < 2 ^ 31) {d : Int32} : inR n d = true ↔ ∃ k, k < n ∧ d = nI k := by
  have hz : nI 0 = (0 : Int32) := rfl
  unfold inR
  rw [Bool.and_eq_true, decide_eq_true_eq, decide_eq_true_eq, hz]
  constructor
  · rintro ⟨h1, h2⟩
    obtain ⟨k, hk, rfl⟩ := nI_of (x := d) (Int32.not_lt.mpr h1)
    refine ⟨k, ?_, rfl⟩
    rcases Nat.eq_zero_or_pos n with rfl | h0
    · exfalso
      have e : nI 0 - nI 1 = -1 := by decide
      rw [e] at h2
      have a := nI_toInt hk
      rw [Int32.le_iff_toInt_le, a] at h2
      have : (-1 : Int32).toInt = -1 := by decide
      omega
    · rw [pk_sub h0, nI_leI hk (by omega)] at h2
      omega
  · rintro ⟨k, hk, rfl⟩
    refine ⟨nI_pos' (by omega), ?_⟩
    rw [pk_sub (by omega), nI_leI (by omega) (by omega)]
    omega
theorem inR_nI {n k : Nat} (hn : n < 2 ^ 31) (hk : k < n) : inR n (nI k) = true := (inR_iff hn).mpr ⟨k, hk, rfl⟩
/-- the byte k of three ints -/
def byF (x y z : Int32) (k : Nat) : Nat := ((if k < 4 then x else if k < 8 then y else z).toBitVec.toNat >>> (24 - 8 * (k % 4))) &&& 255
/-! decisions as rows of parts -/
abbrev Kd (M : MS) (d p : Nat) : Nat := M.2 4 (d * 40 + p)
abbrev Od (M : MS) (d p : Nat) : Nat := M.2 5 (d * 40 + p)
abbrev Td (M : MS) (d p : Nat) : Nat := M.2 6 (d * 40 + p)
abbrev Ld (M : MS) (d c : Nat) : Nat := M.2 8 (d * 8 + c)
/-- the vector's values of a decision's conditions -/
def valsF (M : MS) (d v : Nat) : Nat := bitsTo (fun c => Nat.testBit v (Ld M d c)) (M.2 9 d)
/-- what a part answers, and which conditions it asks -/
def evA (K O T : Nat → Nat) (x : Nat) : Nat → Nat → Bool × Nat
  | 0, _ => (false, 0)
  | n + 1, p => if K p = 0 then (Nat.testBit x (O p), 1 <<< O p) else
    let u := evA K O T x n (O p)
    if K p = 1 then (!u.1, u.2) else
    if (K p = 2 ∧ u.1 = false) ∨ (K p = 3 ∧ u.1 = true) then u else
    let w := evA K O T x n (T p)
    (if K p = 4 then !decide (u.1 = w.1) else w.1, u.2 ||| w.2)
/-- what a part answers with nothing left out -/
def evT (K O T : Nat → Nat) (x : Nat) : Nat → Nat → Bool
  | 0, _ => false
  | n + 1, p => if K p = 0 then Nat.testBit x (O p) else
    if K p = 1 then !(evT K O T x n (O p)) else
    if K p = 2 then evT K O T x n (O p) && evT K O T x n (T p) else
    if K p = 3 then evT K O T x n (O p) || evT K O T x n (T p) else
    !decide (evT K O T x n (O p) = evT K O T x n (T p))
/-- a decision that can be walked -/
def wfP (K O T : Nat → Nat) (n c : Nat) : Prop := ∀ p, p < n → K p ≤ 4 ∧ (K p = 0 → O p < c) ∧ (K p ≠ 0 → O p < p) ∧ (2 ≤ K p → T p < p)
def wfD (M : MS) (d : Nat) : Prop := 1 ≤ M.2 7 d ∧ M.2 7 d ≤ 40 ∧ M.2 9 d ≤ 8 ∧ (∀ c, c < M.2 9 d → Ld M d c < 4) ∧ wfP (Kd M d) (Od M d) (Td M d) (M.2 7 d) (M.2 9 d)
theorem evA_more {K O T : Nat → Nat} {N c x : Nat} (hw : wfP K O T N c) : ∀ (n p : Nat), p < N → p < n → ∀ k, n ≤ k → evA K O T x k p = evA K O T x n p := by
  intro n
  induction n with
  | zero => intro p _ h; omega
  | succ n ih =>
    intro p hN hp k hk
    obtain ⟨k, rfl⟩ : ∃ j, k = j + 1 := ⟨k - 1, by omega⟩
    obtain ⟨h1, h2, h3, h4⟩ := hw p hN
    by_cases h0 : K p = 0
    · simp only [evA, if_pos h0]
    · have ho := h3 h0
      have e1 := ih (O p) (by omega) (by omega) k (by omega)
      by_cases h11 : K p = 1
      · simp only [evA, if_neg h0, if_pos h11, e1]
      · have e2 := ih (T p) (by have := h4 (by omega); omega) (by have := h4 (by omega); omega) k (by omega)
        simp only [evA, if_neg h0, if_neg h11, e1, e2]
theorem evT_A {K O T : Nat → Nat} {N c x : Nat} (hw : wfP K O T N c) : ∀ (n p : Nat), p < N → p < n → evT K O T x n p = (evA K O T x n p).1 := by
  intro n
  induction n with
  | zero => intro p _ h; omega
  | succ n ih =>
    intro p hN hp
    obtain ⟨h1, h2, h3, h4⟩ := hw p hN
    rw [evT, evA]
    by_cases h0 : K p = 0
    · simp [h0]
    · have ho := h3 h0
      have e1 := ih (O p) (by omega) (by omega)
      simp only [if_neg h0]
      by_cases h11 : K p = 1
      · simp [h11, e1]
      · have ht := h4 (by omega)
        have e2 := ih (T p) (by omega) (by omega)
        simp only [if_neg h11]
        rw [e1, e2]
        have hK : K p = 2 ∨ K p = 3 ∨ K p = 4 := by omega
        rcases hK with hK | hK | hK <;> simp only [hK]
        · cases hu : (evA K O T x n (O p)).1 <;> simp [hu]
        · cases hu : (evA K O T x n (O p)).1 <;> simp [hu]
        · cases hu : (evA K O T x n (O p)).1 <;> simp
/-- a decision's answer, what it asks, by the values of its conditions -/
abbrev evD (M : MS) (d x p : Nat) : Bool × Nat := evA (Kd M d) (Od M d) (Td M d) x (p + 1) p
abbrev rt (M : MS) (d : Nat) : Nat := M.2 7 d - 1
def outF (M : MS) (d v : Nat) : Bool := (evD M d (valsF M d v) (rt M d)).1
def askF (M : MS) (d v : Nat) : Nat := (evD M d (valsF M d v) (rt M d)).2
def decF (M : MS) (d v : Nat) : Nat := bitsTo (fun c => !decide ((evD M d (valsF M d v ^^^ 1 <<< c) (rt M d)).1 = outF M d v)) (M.2 9 d)
/-! prohibitions -/
def alwTo (f1 v1 f2 v2 : Nat → Nat) (v : Nat) : Nat → Bool
  | 0 => true
  | k + 1 => alwTo f1 v1 f2 v2 v k && !(decide ((v >>> f1 k) &&& 1 = v1 k) && decide ((v >>> f2 k) &&& 1 = v2 k))
def alwF (M : MS) (v : Nat) : Bool := alwTo (M.2 11) (M.2 12) (M.2 13) (M.2 14) v (M.1 15)
def alwS (M : MS) : Nat := bitsTo (alwF M) 16
def wfF (M : MS) : Prop := M.1 15 ≤ 6 ∧ ∀ k, k < M.1 15 → M.2 11 k < 4 ∧ M.2 12 k ≤ 1 ∧ M.2 13 k < 4 ∧ M.2 14 k ≤ 1
theorem alwTo_no {f1 v1 f2 v2 : Nat → Nat} {v i : Nat} (h : alwTo f1 v1 f2 v2 v i = false) {n : Nat} (hn : i ≤ n) : alwTo f1 v1 f2 v2 v n = false := by
  induction n with
  | zero => have : i = 0 := by omega
            subst this; exact h
  | succ n ih =>
    rcases Nat.lt_or_ge i (n + 1) with h1 | h1
    · rw [alwTo, ih (by omega)]; rfl
    · have : i = n + 1 := by omega
      subst this; exact h
/-! pairs -/
def areF (V A E : Nat → Nat) (r c v w : Nat) : Bool :=
  if r = 0 then decide (nAnd (V v ^^^ V w) (1 <<< c) = 0) else
  if r = 1 then Nat.testBit (A v) c && (Nat.testBit (A w) c && decide ((nAnd (V v ^^^ V w) (1 <<< c) &&& A v) &&& A w = 0)) else
  Nat.testBit (E v) c && Nat.testBit (E w) c
/-- the conditions that a set covers, by the pairs' sets P -/
def covF (P : Nat → Nat → Nat) (set : Nat) : Nat := bitsTo (fun c => anyTo (fun v => Nat.testBit set v && !decide (P c v &&& set = 0)) 16) 8
def parF (M : MS) (d r c v w : Nat) : Bool := Nat.testBit (alwS M) v && (Nat.testBit (alwS M) w && (!decide (outF M d v = outF M d w) && (!decide (Nat.testBit (valsF M d v) c = Nat.testBit (valsF M d w) c) && areF (valsF M d) (askF M d) (decF M d) r c v w)))
def parS (M : MS) (d r c v : Nat) : Nat := if c < M.2 9 d then bitsTo (parF M d r c v) 16 else 0
def isC (M : MS) (d q : Int32) : Bool := inR (M.1 3) d && inR (M.2 9 d.toNatClampNeg) q
theorem evT_more {K O T : Nat → Nat} {N c x : Nat} (hw : wfP K O T N c) {n p : Nat} (hN : p < N) (hp : p < n) : evT K O T x n p = evT K O T x (p + 1) p := by
  rw [evT_A hw n p hN hp, evT_A hw (p + 1) p hN (by omega), evA_more hw (p + 1) p hN (by omega) n (by omega)]
theorem nI_self (x : Int32) : nI x.toBitVec.toNat = x := by
  apply Int32.toBitVec_inj.1
  show BitVec.ofNat 32 x.toBitVec.toNat = x.toBitVec
  simp
theorem byF_eq (X : Int32) (k : Nat) : (Int32.toUInt32 X >>> (Int32.toUInt32 (nI (24 - (8 * (k % 4)))) &&& Int32.toUInt32 31)).toInt32 &&& nI 255 = nI ((X.toBitVec.toNat >>> (24 - 8 * (k % 4))) &&& 255) := by
  have h := nI_ushr (x := X.toBitVec.toNat) (k := 24 - 8 * (k % 4)) X.toBitVec.isLt (by omega)
  rw [nI_self] at h
  rw [h, nx_and]
theorem ev_step {M : MS} {d x p : Nat} (hw : wfD M d) (hp : p < M.2 7 d) : evD M d x p = if M.2 4 (d * 40 + p) = 0 then (Nat.testBit x (M.2 5 (d * 40 + p)), 1 <<< M.2 5 (d * 40 + p)) else
    if M.2 4 (d * 40 + p) = 1 then (!(evD M d x (M.2 5 (d * 40 + p))).1, (evD M d x (M.2 5 (d * 40 + p))).2) else
    if (M.2 4 (d * 40 + p) = 2 ∧ (evD M d x (M.2 5 (d * 40 + p))).1 = false) ∨ (M.2 4 (d * 40 + p) = 3 ∧ (evD M d x (M.2 5 (d * 40 + p))).1 = true) then evD M d x (M.2 5 (d * 40 + p)) else
    (if M.2 4 (d * 40 + p) = 4 then !decide ((evD M d x (M.2 5 (d * 40 + p))).1 = (evD M d x (M.2 6 (d * 40 + p))).1) else (evD M d x (M.2 6 (d * 40 + p))).1, (evD M d x (M.2 5 (d * 40 + p))).2 ||| (evD M d x (M.2 6 (d * 40 + p))).2) := by
  obtain ⟨-, -, -, -, hpt⟩ := hw
  obtain ⟨h1, h2, h3, h4⟩ := hpt p hp
  show evA (Kd M d) (Od M d) (Td M d) x (p + 1) p = _
  rw [evA]
  by_cases h0 : Kd M d p = 0
  · rw [if_pos h0, if_pos h0]
  · rw [if_neg h0, if_neg h0]
    have ho := h3 h0
    have e1 : evA (Kd M d) (Od M d) (Td M d) x p (Od M d p) = evD M d x (Od M d p) := evA_more hpt (Od M d p + 1) (Od M d p) (by omega) (by omega) p (by omega)
    by_cases h11 : Kd M d p = 1
    · simp only [if_pos h11, e1]
    · have ht := h4 (by omega)
      have e2 : evA (Kd M d) (Od M d) (Td M d) x p (Td M d p) = evD M d x (Td M d p) := evA_more hpt (Td M d p + 1) (Td M d p) (by omega) (by omega) p (by omega)
      simp only [if_neg h11, e1, e2]
theorem ask_lt {M : MS} {d x : Nat} (hw : wfD M d) : ∀ (n p : Nat), p < n → p < M.2 7 d → (evD M d x p).2 < 2 ^ M.2 9 d := by
  intro n
  induction n with
  | zero => intro p h; omega
  | succ n ih =>
    intro p hn hp
    have hw0 := hw
    obtain ⟨-, -, -, -, hpt⟩ := hw
    have h2 : M.2 4 (d * 40 + p) = 0 → M.2 5 (d * 40 + p) < M.2 9 d := (hpt p hp).2.1
    have h3 : M.2 4 (d * 40 + p) ≠ 0 → M.2 5 (d * 40 + p) < p := (hpt p hp).2.2.1
    have h4 : 2 ≤ M.2 4 (d * 40 + p) → M.2 6 (d * 40 + p) < p := (hpt p hp).2.2.2
    rw [ev_step hw0 hp]
    by_cases h0 : M.2 4 (d * 40 + p) = 0
    · rw [if_pos h0, Nat.one_shiftLeft]
      exact Nat.pow_lt_pow_right (by omega) (h2 h0)
    · have ho := h3 h0
      have i1 := ih (M.2 5 (d * 40 + p)) (by omega) (by omega)
      rw [if_neg h0]
      by_cases h11 : M.2 4 (d * 40 + p) = 1
      · rw [if_pos h11]; exact i1
      · have ht := h4 (by omega)
        have i2 := ih (M.2 6 (d * 40 + p)) (by omega) (by omega)
        rw [if_neg h11]
        split
        · exact i1
        · exact Nat.or_lt_two_pow i1 i2
theorem vals_lt {M : MS} {d v : Nat} (hw : wfD M d) : valsF M d v < 256 := Nat.lt_of_lt_of_le (bitsTo_lt _ _) (Nat.pow_le_pow_right (n := 2) (by omega) hw.2.2.1)
theorem askF_lt {M : MS} {d v : Nat} (hw : wfD M d) : askF M d v < 256 := Nat.lt_of_lt_of_le (ask_lt hw _ _ (Nat.lt_succ_self _) (by have := hw.1; show M.2 7 d - 1 < _; omega)) (Nat.pow_le_pow_right (n := 2) (by omega) hw.2.2.1)
theorem decF_lt {M : MS} {d v : Nat} (hw : wfD M d) : decF M d v < 256 := Nat.lt_of_lt_of_le (bitsTo_lt _ _) (Nat.pow_le_pow_right (n := 2) (by omega) hw.2.2.1)
theorem whole_st {K O T : Nat → Nat} {N c x i : Nat} (hw : wfP K O T N c) (hi : i < N) {av bv E : Bool} (ha : av = (!decide (K i = 0) && evT K O T x (O i + 1) (O i))) (hb : bv = (!decide (K i = 0) && (!decide (K i = 1) && evT K O T x (T i + 1) (T i)))) (h0 : K i = 0 → E = Nat.testBit x (O i)) (h1 : K i = 1 → E = !av) (h2 : K i = 2 → E = (av && bv)) (h3 : K i = 3 → E = (av || bv)) (h4 : K i = 4 → E = !decide (av = bv)) : E = evT K O T x (i + 1) i := by
  obtain ⟨w1, w2, w3, w4⟩ := hw i hi
  rw [evT]
  by_cases q0 : K i = 0
  · rw [if_pos q0, h0 q0]
  · have ho := w3 q0
    rw [if_neg q0, evT_more hw (n := i) (p := O i) (by omega) ho]
    have ha : av = evT K O T x (O i + 1) (O i) := by rw [ha]; simp [q0]
    by_cases q1 : K i = 1
    · rw [if_pos q1, h1 q1, ha]
    · have ht := w4 (by omega)
      have hb : bv = evT K O T x (T i + 1) (T i) := by rw [hb]; simp [q0, q1]
      rw [if_neg q1, evT_more hw (n := i) (p := T i) (by omega) ht, ← ha, ← hb]
      have hK : K i = 2 ∨ K i = 3 ∨ K i = 4 := by omega
      rcases hK with hK | hK | hK
      · rw [h2 hK, if_pos hK]
      · rw [h3 hK, if_neg (by omega), if_pos hK]
      · rw [h4 hK, if_neg (by omega), if_neg (by omega)]
theorem shl_lt {i n : Nat} (h : i < n) : 1 <<< i < 2 ^ n := by rw [Nat.one_shiftLeft]; exact Nat.pow_lt_pow_right (by omega) h
theorem valx_lt {M : MS} {d v i : Nat} (hw : wfD M d) (hi : i < 8) : valsF M d v ^^^ 1 <<< i < 2 ^ 31 := Nat.lt_of_lt_of_le (Nat.xor_lt_two_pow (n := 8) (vals_lt hw) (shl_lt hi)) (by decide)
theorem if_nb {P : Prop} [Decidable P] (t : Nat) : (if P then 0 else t) = (if (!decide P) = true then t else 0) := by by_cases h : P <;> simp [h]
theorem or_any {X t : Nat} {p q : Bool} {P : Prop} [Decidable P] : (X ||| if p = true then t else 0) ||| (if q = true then (if P then 0 else t) else 0) = X ||| (if (p || (q && !decide P)) = true then t else 0) := by
  cases p <;> cases q <;> by_cases h : P <;> simp [h, Nat.or_assoc]
theorem ups {f g : Nat → Nat} {i V : Nat} (h : ∀ k, k < i → f k = g k) (hv : V = g i) : ∀ k, k < i + 1 → (fun zz => if zz = i then V else f zz) k = g k := by
  intro k hk
  show (if k = i then V else f k) = g k
  by_cases hki : k = i
  · rw [if_pos hki, hki, hv]
  · rw [if_neg hki]; exact h k (by omega)
theorem areF_congr {V V' A A' E E' : Nat → Nat} {r c v w : Nat} (h1 : V v = V' v) (h2 : V w = V' w) (h3 : A v = A' v) (h4 : A w = A' w) (h5 : E v = E' v) (h6 : E w = E' w) : areF V A E r c v w = areF V' A' E' r c v w := by
  unfold areF; rw [h1, h2, h3, h4, h5, h6]
/-- the smallest set of some with which, and others, all that is possible is covered; as the reference finds it -/
def smTo (P : Nat → Nat → Nat) (some wi : Nat) : Nat → Int32 × Nat
  | 0 => (-1, 17)
  | n + 1 => if nAnd n some = 0 ∧ popc n < (smTo P some wi n).2 ∧ covF P (n ||| wi) = covF P 65535 then (nI n, popc n) else smTo P some wi n
theorem smTo_le (P : Nat → Nat → Nat) (some wi n : Nat) : (smTo P some wi n).2 ≤ 17 := by
  induction n with
  | zero => exact Nat.le_refl _
  | succ n ih =>
    rw [smTo]
    split
    · rename_i h; exact Nat.le_of_lt (Nat.lt_of_lt_of_le h.2.1 ih)
    · exact ih
theorem covF_lt (P : Nat → Nat → Nat) (z : Nat) : covF P z < 256 := bitsTo_lt _ _
theorem alwS_lt (M : MS) : alwS M < 65536 := bitsTo_lt _ _
theorem parS_lt (M : MS) (d r c v : Nat) : parS M d r c v < 65536 := by
  unfold parS; split
  · exact bitsTo_lt _ _
  · decide
theorem or_cpl {X t : Nat} {p : Bool} {P P' : Prop} [Decidable P] [Decidable P'] : (X ||| if p = true then t else 0) ||| (if P then 0 else if P' then t else 0) = X ||| (if (p || (!decide P && decide P')) = true then t else 0) := by
  cases p <;> by_cases h : P <;> by_cases h' : P' <;> simp [h, h', Nat.or_assoc]
/-! PURE: the public methods' answers -/
/-- what always holds of the reference -/
def mI (M : MS) : Prop := M.1 3 ≤ 6 ∧ (∀ d, d < M.1 3 → wfD M d) ∧ wfF M ∧ M.1 2 ≤ 40 ∧ (∀ j, j < M.1 2 → 1 ≤ M.2 1 j ∧ M.2 1 j < 128) ∧ (∀ d, d < M.1 3 → M.2 10 d < 65536)
abbrev cl (d : Int32) : Nat := d.toNatClampNeg
theorem cl_nI {k : Nat} (h : k < 65536) : cl (nI k) = k := nI_clamp (by omega)
def cplF (M : MS) (d : Nat) : Nat := bitsTo (fun k => anyTo (fun i => !decide (k = i) && decide (Ld M d k = Ld M d i)) (M.2 9 d)) (M.2 9 d)
def dpT (K O T : Nat → Nat) : Nat → Nat → Nat
  | 0, _ => 0
  | n + 1, p => if K p = 0 then 0 else 1 + (if K p = 1 then dpT K O T n (O p) else max (dpT K O T n (O p)) (dpT K O T n (T p)))
theorem dpT_more {K O T : Nat → Nat} {N c : Nat} (hw : wfP K O T N c) : ∀ (n p : Nat), p < N → p < n → ∀ k, n ≤ k → dpT K O T k p = dpT K O T n p := by
  intro n
  induction n with
  | zero => intro p _ h; omega
  | succ n ih =>
    intro p hN hp k hk
    obtain ⟨k, rfl⟩ : ∃ j, k = j + 1 := ⟨k - 1, by omega⟩
    obtain ⟨h1, h2, h3, h4⟩ := hw p hN
    by_cases h0 : K p = 0
    · simp only [dpT, if_pos h0]
    · have ho := h3 h0
      have e1 := ih (O p) (by omega) (by omega) k (by omega)
      by_cases h11 : K p = 1
      · simp only [dpT, if_neg h0, if_pos h11, e1]
      · have ht := h4 (by omega)
        have e2 := ih (T p) (by omega) (by omega) k (by omega)
        simp only [dpT, if_neg h0, if_neg h11, e1, e2]
theorem dpT_le (K O T : Nat → Nat) (n p : Nat) : dpT K O T n p ≤ n := by
  induction n generalizing p with
  | zero => exact Nat.le_refl _
  | succ n ih =>
    rw [dpT]
    have := ih (O p)
    have := ih (T p)
    split
    · omega
    · split <;> omega
def dpF (M : MS) (d : Nat) : Nat := dpT (Kd M d) (Od M d) (Td M d) (rt M d + 1) (rt M d)
theorem dp_st {K O T : Nat → Nat} {N c i : Nat} (hw : wfP K O T N c) (hi : i < N) {E : Nat} (h0 : K i = 0 → E = 0) (h1 : K i = 1 → E = 1 + dpT K O T (O i + 1) (O i)) (h2 : 2 ≤ K i → E = 1 + max (dpT K O T (O i + 1) (O i)) (dpT K O T (T i + 1) (T i))) : E = dpT K O T (i + 1) i := by
  obtain ⟨w1, w2, w3, w4⟩ := hw i hi
  rw [dpT]
  by_cases q0 : K i = 0
  · rw [if_pos q0, h0 q0]
  · have ho := w3 q0
    have e1 : dpT K O T i (O i) = dpT K O T (O i + 1) (O i) := dpT_more hw (O i + 1) (O i) (by omega) (by omega) i (by omega)
    rw [if_neg q0, e1]
    by_cases q1 : K i = 1
    · rw [if_pos q1, h1 q1]
    · have ht := w4 (by omega)
      have e2 : dpT K O T i (T i) = dpT K O T (T i + 1) (T i) := dpT_more hw (T i + 1) (T i) (by omega) (by omega) i (by omega)
      rw [if_neg q1, h2 (by omega), e2]
def stF (M : MS) (d q v : Nat) : Nat := if Nat.testBit (askF M d v) q = true then (if Nat.testBit (valsF M d v) q = true then 1 else 0) else 2
def allTo (f : Nat → Bool) : Nat → Bool
  | 0 => true
  | n + 1 => allTo f n && f n
theorem allTo_no {f : Nat → Bool} {i n : Nat} (hi : i < n) (h : f i = false) : allTo f n = false := by
  induction n with
  | zero => omega
  | succ n ih =>
    rw [allTo]
    by_cases e : i = n
    · rw [← e, h, Bool.and_false]
    · rw [ih (by omega)]; rfl
def smeF (M : MS) (d f : Nat) : Bool := allTo (fun v => !alwF M v || decide (outF M d v = outF M f v)) 16
def outS (M : MS) (d : Nat) : Nat → Nat
  | 0 => 0
  | n + 1 => outS M d n ||| (if Nat.testBit (M.2 10 d) n = true then (if outF M d n = true then 2 else 1) else 0)
def seenF (M : MS) (d : Nat) : Nat → Nat × Nat
  | 0 => (0, 0)
  | n + 1 => if Nat.testBit (M.2 10 d) n = true then ((seenF M d n).1 ||| (askF M d n &&& valsF M d n), (seenF M d n).2 ||| nAnd (askF M d n) (valsF M d n)) else seenF M d n
/-- the sum and the number of the allowed vectors' asked conditions -/
def mnF (M : MS) (d : Nat) : Nat → Nat × Nat
  | 0 => (0, 0)
  | n + 1 => if alwF M n = true then ((mnF M d n).1 + popc (askF M d n), (mnF M d n).2 + 1) else mnF M d n
/-- the pairs' sets, as a square -/
abbrev prs (M : MS) (d r : Nat) : Nat → Nat → Nat := fun g v => parS M d r g v
def sumTo (f : Nat → Nat) : Nat → Nat
  | 0 => 0
  | n + 1 => sumTo f n + f n
theorem covF_congr {P P' : Nat → Nat → Nat} {z : Nat} (h : ∀ g v, g < 8 → v < 16 → P g v = P' g v) : covF P z = covF P' z := by
  apply bitsTo_congr
  intro i hi
  have e : ∀ n, n ≤ 16 → anyTo (fun v => Nat.testBit z v && !decide (P i v &&& z = 0)) n = anyTo (fun v => Nat.testBit z v && !decide (P' i v &&& z = 0)) n := by
    intro n
    induction n with
    | zero => intro _; rfl
    | succ n ih => intro hn; rw [anyTo, anyTo, ih (by omega), h i n hi (by omega)]
  exact e 16 (Nat.le_refl _)
theorem smTo_congr {P P' : Nat → Nat → Nat} {x y : Nat} (h : ∀ g v, g < 8 → v < 16 → P g v = P' g v) (n : Nat) : smTo P x y n = smTo P' x y n := by
  induction n with
  | zero => rfl
  | succ n ih => rw [smTo, smTo, ih, covF_congr (z := n ||| y) h, covF_congr (z := 65535) h]
theorem isC_iff {M : MS} (hI : mI M) {d q : Int32} : isC M d q = true ↔ ∃ k j, k < M.1 3 ∧ j < M.2 9 k ∧ d = nI k ∧ q = nI j := by
  have h3 := hI.1
  rw [isC, Bool.and_eq_true_iff, inR_iff (by omega)]
  constructor
  · rintro ⟨⟨k, hk, rfl⟩, h⟩
    rw [nI_clamp (by omega)] at h
    have := (hI.2.1 k hk).2.2.1
    obtain ⟨j, hj, rfl⟩ := (inR_iff (by omega)).mp h
    exact ⟨k, j, hk, hj, rfl, rfl⟩
  · rintro ⟨k, j, hk, hj, rfl, rfl⟩
    refine ⟨⟨k, hk, rfl⟩, ?_⟩
    rw [nI_clamp (by omega)]
    have := (hI.2.1 k hk).2.2.1
    exact inR_nI (by omega) hj
def tD (M : MS) (d : Int32) : Nat := if inR (M.1 3) d = true then 0 else 1
def tDV (M : MS) (d v : Int32) : Nat := if inR (M.1 3) d = true then (if inR 16 v = true then 0 else 2) else 1
def tC (M : MS) (d q : Int32) : Nat := if isC M d q = true then 0 else 1
def tCV (M : MS) (d q v : Int32) : Nat := if isC M d q = true then (if inR 16 v = true then 0 else 2) else 1
def tDR (M : MS) (d r : Int32) : Nat := if inR (M.1 3) d = true then (if inR 3 r = true then 0 else 2) else 1
def tCR (M : MS) (d r q : Int32) : Nat := if isC M d q = true then (if inR 3 r = true then 0 else 2) else 1
def tCP (M : MS) (d r q v w : Int32) : Nat := if isC M d q = true then (if inR 3 r = true then (if (inR 16 v && inR 16 w) = true then 0 else 2) else 2) else 1
theorem sumTo_le {f : Nat → Nat} {B : Nat} (h : ∀ i, f i ≤ B) (n : Nat) : sumTo f n ≤ B * n := by
  induction n with
  | zero => exact Nat.le_refl _
  | succ n ih => rw [sumTo, Nat.mul_succ]; have := h n; omega
/-- the pair with an index, by its code -/
def paS (f : Nat → Bool) (z : Int32) : Nat → Option Nat
  | 0 => none
  | n + 1 => match paS f z n with
    | some x => some x
    | none => if f n = true ∧ z - nI (cntTo f n) = 0 then some n else none
theorem paS_some {f : Nat → Bool} {z : Int32} {i x n : Nat} (h : paS f z i = some x) (hn : i ≤ n) : paS f z n = some x := by
  induction n with
  | zero => have : i = 0 := by omega
            subst this; exact h
  | succ n ih =>
    rcases Nat.lt_or_ge i (n + 1) with h1 | h1
    · rw [paS, ih (by omega)]
    · have : i = n + 1 := by omega
      subst this; exact h
def pcF (P : Nat → Nat) (n : Nat) : Bool := decide (n / 16 < n % 16) && Nat.testBit (P (n / 16)) (n % 16)
def paF (P : Nat → Nat) (z : Int32) : Option Nat := if z < 0 then none else paS (pcF P) z 256
def tPA (M : MS) (d r q z : Int32) : Nat := if isC M d q = true then (if inR 3 r = true then (if (paF (parS M (cl d) (cl r) (cl q)) z).isSome = true then 0 else 3) else 2) else 1
def sgTo (P : Nat → Nat → Nat) (al : Nat → Bool) (T : Nat) : Nat → Nat × Int32
  | 0 => (popc (covF P T), -1)
  | n + 1 => if al n = true ∧ Nat.testBit T n = false ∧ (sgTo P al T n).1 < popc (covF P (T ||| 1 <<< n)) then (popc (covF P (T ||| 1 <<< n)), nI n) else sgTo P al T n
theorem sgTo_le (P : Nat → Nat → Nat) (al : Nat → Bool) (T n : Nat) : (sgTo P al T n).1 ≤ 32 := by
  induction n with
  | zero => exact popc_le _
  | succ n ih => rw [sgTo]; split
                 · exact popc_le _
                 · exact ih
def rdF (P : Nat → Nat → Nat) (due : Nat) : Nat → Nat → Nat
  | 0, x => x
  | n + 1, x => rdF P due n (if covF P (nAnd x (1 <<< n)) = due then nAnd x (1 <<< n) else x)
theorem ev_agree {K O T : Nat → Nat} {x y : Nat} (n p : Nat) (h : ∀ i, Nat.testBit (evA K O T x n p).2 i = true → Nat.testBit x i = Nat.testBit y i) : evA K O T y n p = evA K O T x n p := by
  induction n generalizing p with
  | zero => rfl
  | succ n ih =>
    rw [evA, evA]
    rw [evA] at h
    by_cases h0 : K p = 0
    · simp only [if_pos h0] at h ⊢
      rw [h (O p) (by rw [Nat.one_shiftLeft]; exact Nat.testBit_two_pow_self)]
    · simp only [if_neg h0] at h ⊢
      by_cases h1 : K p = 1
      · simp only [if_pos h1] at h ⊢
        rw [ih (O p) h]
      · simp only [if_neg h1] at h ⊢
        by_cases h2 : (K p = 2 ∧ (evA K O T x n (O p)).1 = false) ∨ (K p = 3 ∧ (evA K O T x n (O p)).1 = true)
        · simp only [if_pos h2] at h
          have e := ih (O p) h
          rw [e, if_pos h2, if_pos h2]
        · simp only [if_neg h2] at h
          have e := ih (O p) (fun i hi => h i (by rw [Nat.testBit_or, hi, Bool.true_or]))
          have e2 := ih (T p) (fun i hi => h i (by rw [Nat.testBit_or, hi, Bool.or_true]))
          rw [e, if_neg h2, if_neg h2, e2]
theorem dec_ask {M : MS} {d v : Nat} {i : Nat} (h : Nat.testBit (decF M d v) i = true) : Nat.testBit (askF M d v) i = true := by
  cases hb : Nat.testBit (askF M d v) i with
  | true => rfl
  | false =>
    exfalso
    rw [decF, bitsTo_test, Bool.and_eq_true_iff] at h
    have e : evD M d (valsF M d v ^^^ 1 <<< i) (rt M d) = evD M d (valsF M d v) (rt M d) := by
      apply ev_agree
      intro j hj
      have hne : i ≠ j := fun z => by
        subst z
        have hj' : Nat.testBit (askF M d v) i = true := hj
        rw [hb] at hj'
        exact Bool.noConfusion hj'
      rw [Nat.testBit_xor, Nat.one_shiftLeft, Nat.testBit_two_pow]
      simp [hne]
    have h2 := h.2
    simp only [outF, e] at h2
    simp at h2
theorem dec_no (M : MS) (d v : Nat) : nAnd (decF M d v) (askF M d v) = 0 := by
  apply Nat.eq_of_testBit_eq
  intro i
  rw [nAnd_test, Nat.zero_testBit]
  cases h : Nat.testBit (decF M d v) i with
  | false => rfl
  | true => rw [dec_ask h]; rfl
theorem popc8 {x : Nat} (h : x < 256) : popc x ≤ 8 := by
  have : ∀ k, 8 ≤ k → cntTo (Nat.testBit x) k ≤ 8 := by
    intro k
    induction k with
    | zero => intro h; omega
    | succ k ih2 =>
      intro hk
      rcases Nat.lt_or_ge k 8 with q | q
      · have e : k + 1 = 8 := by omega
        rw [e]; exact cntTo_le _ _
      · rw [cntTo, Nat.testBit_lt_two_pow (Nat.lt_of_lt_of_le h (show 256 ≤ 2 ^ k from Nat.pow_le_pow_right (n := 2) (by omega) q))]
        exact ih2 q
  exact this 32 (by omega)
theorem mnF_le {M : MS} {d : Nat} (hw : wfD M d) (n : Nat) : (mnF M d n).1 ≤ 8 * n ∧ (mnF M d n).2 ≤ n := by
  induction n with
  | zero => exact ⟨Nat.le_refl _, Nat.le_refl _⟩
  | succ n ih =>
    have hp : popc (askF M d n) ≤ 8 := popc8 (askF_lt hw)
    rw [mnF]
    split
    · exact ⟨by show (mnF M d n).1 + _ ≤ _; omega, by show (mnF M d n).2 + 1 ≤ _; omega⟩
    · omega
def mnR (M : MS) (d : Nat) : UInt64 := if (mnF M d 16).2 = 0 then FP.dconst0 else FP.ddiv (FP.i2d (nI (mnF M d 16).1)) (FP.i2d (nI (mnF M d 16).2))
def cvR (P : Nat → Nat → Nat) (T : Nat) : UInt32 := if popc (covF P 65535) = 0 then FP.fconst1 else FP.fdiv (FP.i2f (nI (popc (covF P T)))) (FP.i2f (nI (popc (covF P 65535))))
theorem ps_lt {ps : Nat → Nat} {M : MS} {d r : Nat} (h : ∀ g v, g < 8 → v < 16 → ps (g * 16 + v) = parS M d r g v) : ∀ k, k < 128 → ps k < 65536 := by
  intro k hk
  have e : k = k / 16 * 16 + k % 16 := by omega
  rw [e, h (k / 16) (k % 16) (by omega) (by omega)]
  exact parS_lt _ _ _ _ _
theorem pa_no {f : Nat → Bool} {z lf : Int32} {i : Nat} (h : paS f z i = none) (hl : lf = z - nI (cntTo f i)) (q : f i = false ∨ ¬ lf = 0) : paS f z (i + 1) = none := by
  rw [paS, h]
  show (if f i = true ∧ z - nI (cntTo f i) = 0 then some i else none) = none
  rw [← hl]
  rcases q with q | q
  · simp [q]
  · rw [if_neg (fun z => q z.2)]
theorem pa_lf {f : Nat → Bool} {z lf lf' : Int32} {i : Nat} (hl : lf = z - nI (cntTo f i)) (q : (f i = true ∧ lf' = lf + (-1)) ∨ (f i = false ∧ lf' = lf)) : lf' = z - nI (cntTo f (i + 1)) := by
  rw [cntTo]
  rcases q with ⟨q, rfl⟩ | ⟨q, rfl⟩
  · rw [q, hl, ← nI_add]
    show z - nI (cntTo f i) + (-1) = z - (nI (cntTo f i) + 1)
    grind
  · rw [q, hl]; rfl
theorem pa_yes {f : Nat → Nat} {z lf : Int32} {i : Nat} (h : paS (pcF f) z i = none) (hl : lf = z - nI (cntTo (pcF f) i)) (hf : pcF f i = true) (h0 : lf = 0) (hi : i < 256) (hz : ¬ z < 0) : paF f z = some i := by
  rw [paF, if_neg hz]
  apply paS_some (i := i + 1) _ (by omega)
  rw [paS, h]
  show (if pcF f i = true ∧ z - nI (cntTo (pcF f) i) = 0 then some i else none) = some i
  rw [← hl, if_pos ⟨hf, h0⟩]
theorem pa_none {f : Nat → Nat} {z : Int32} {i : Nat} (h : paS (pcF f) z i = none) (q : i = 256 ∨ z < 0) : paF f z = none := by
  rw [paF]
  split
  · rfl
  · rename_i hz
    rcases q with rfl | q
    · exact h
    · exact absurd q hz
theorem pcF_t {f : Nat → Nat} {n : Nat} (h1 : n / 16 < n % 16) (h2 : Nat.testBit (f (n / 16)) (n % 16) = true) : pcF f n = true := by
  rw [pcF, decide_eq_true h1, h2]; rfl
theorem pcF_1 {f : Nat → Nat} {n : Nat} (h1 : ¬ n / 16 < n % 16) : pcF f n = false := by
  rw [pcF, decide_eq_false h1]; rfl
theorem pcF_2 {f : Nat → Nat} {n : Nat} (h2 : Nat.testBit (f (n / 16)) (n % 16) = false) : pcF f n = false := by
  rw [pcF, h2, Bool.and_false]
def shf (f : Nat → Nat) (x i : Nat) : Nat → Nat := fun k => if x ≤ k ∧ k < i then f (k + 1) else f k
theorem shf_0 (f : Nat → Nat) (x : Nat) : shf f x x = f := by
  funext k; rw [shf, if_neg (by omega)]
theorem shf_st {f : Nat → Nat} {x i : Nat} (h : x ≤ i) : shf f x (i + 1) = fun zz => if zz = i then shf f x i (i + 1) else shf f x i zz := by
  funext k
  simp only [shf]
  by_cases hk : k = i
  · rw [if_pos hk, if_pos (by omega), if_neg (by omega), hk]
  · rw [if_neg hk]
    by_cases h2 : x ≤ k ∧ k < i
    · rw [if_pos h2, if_pos (by omega)]
    · rw [if_neg h2, if_neg (by omega)]
def fbOk (x y : Int32) : Bool := inR 4 x && (inR 4 y && !decide (x = y))
def fbM (M : MS) (x : Nat) (va : Bool) (y : Nat) (vb : Bool) : MS := sF (sA (sA (sA (sA M 11 (M.1 15) x) 12 (M.1 15) va.toNat) 13 (M.1 15) y) 14 (M.1 15) vb.toNat) 15 (M.1 15 + 1)
def fbT (M : MS) (x y : Int32) : Nat := if fbOk x y = true then (if M.1 15 = 6 then 2 else 0) else 1
def pmM (M : MS) (x : Nat) : MS := sR (sR (sR (sR (sF M 15 (M.1 15 - 1)) 11 (shf (M.2 11) x (M.1 15 - 1))) 12 (shf (M.2 12) x (M.1 15 - 1))) 13 (shf (M.2 13) x (M.1 15 - 1))) 14 (shf (M.2 14) x (M.1 15 - 1))
def adT (M : MS) (d v : Int32) : Nat := if (inR (M.1 3) d && inR 16 v) = true then (if (Nat.testBit (M.2 10 (cl d)) (cl v) || !alwF M (cl v)) = true then 3 else 0) else tDV M d v
def adM (M : MS) (d v : Nat) : MS := sA M 10 d (M.2 10 d ||| 1 <<< v)
def rmT (M : MS) (d v : Int32) : Nat := if (inR (M.1 3) d && inR 16 v) = true then (if Nat.testBit (M.2 10 (cl d)) (cl v) = true then 0 else 3) else tDV M d v
def rmM (M : MS) (d v : Nat) : MS := sA M 10 d (nAnd (M.2 10 d) (1 <<< v))
theorem or1_lt {x w : Nat} (h : x < 65536) (hw : w < 16) : x ||| 1 <<< w < 65536 := Nat.or_lt_two_pow (n := 16) h (shl_lt hw)
theorem nAnd_lt {x y : Nat} (h : x < 65536) : nAnd x y < 65536 := Nat.lt_of_le_of_lt (nAnd_le _ _) h
theorem pos_of {i : Nat} (h : ¬ nI i + (-1) < 0) : ∃ g, i = g + 1 := by
  rcases Nat.eq_zero_or_pos i with z | z
  · exact absurd (by rw [z]; decide) h
  · exact ⟨i - 1, by omega⟩
theorem ite_lt {P : Prop} [Decidable P] {x y n : Nat} (hx : x < n) (hy : y < n) : (if P then x else y) < n := by split <;> assumption
theorem fb_ok {x y : Int32} (h : (!inR 4 x || (!inR 4 y || decide (x = y))) = false) : fbOk x y = true := by
  rw [Bool.or_eq_false_iff, Bool.or_eq_false_iff] at h
  obtain ⟨h1, h2, h3⟩ := h
  rw [Bool.not_eq_false'] at h1 h2
  rw [fbOk, h1, h2, h3]; rfl
theorem fb_no {x y : Int32} (h : (!inR 4 x || (!inR 4 y || decide (x = y))) = true) : fbOk x y = false := by
  rw [fbOk]
  cases h1 : inR 4 x <;> cases h2 : inR 4 y <;> simp [h1, h2] at *
  exact h
theorem fb_iff {x y : Int32} : fbOk x y = true ↔ (∃ k, k < 4 ∧ x = nI k) ∧ (∃ k, k < 4 ∧ y = nI k) ∧ ¬ x = y := by
  rw [fbOk, Bool.and_eq_true_iff, Bool.and_eq_true_iff, inR_iff (by decide), inR_iff (by decide)]
  simp
theorem wf_pm {M : MS} (h : wfF M) {x : Nat} : wfF (pmM M x) := by
  refine ⟨Nat.le_trans (Nat.sub_le _ _) h.1, fun k hk => ?_⟩
  have hk : k < M.1 15 - 1 := hk
  have h2 := h.2
  have key : ∀ j, k = j ∨ k + 1 = j → M.2 11 j < 4 ∧ M.2 12 j ≤ 1 ∧ M.2 13 j < 4 ∧ M.2 14 j ≤ 1 := fun j hj => h2 j (by omega)
  show shf (M.2 11) x (M.1 15 - 1) k < 4 ∧ shf (M.2 12) x (M.1 15 - 1) k ≤ 1 ∧ shf (M.2 13) x (M.1 15 - 1) k < 4 ∧ shf (M.2 14) x (M.1 15 - 1) k ≤ 1
  simp only [shf]
  split
  · exact key _ (Or.inr rfl)
  · exact key _ (Or.inl rfl)
def pmT (M : MS) (x : Int32) : Nat := if inR (M.1 15) x = true then 0 else 1
