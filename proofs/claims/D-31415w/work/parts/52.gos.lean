set_option maxRecDepth 100000
/-! the next set of the same size (Gosper) -/
theorem gs_dec : ∀ x : Nat, 0 < x → ∃ t k A, 1 ≤ k ∧ x = 2 ^ (t + k + 1) * A + 2 ^ t * (2 ^ k - 1) ∧ (x % 2 = 1 → t = 0) := by
  intro x
  induction x using Nat.strongRecOn with
  | ind x ih =>
    intro hx
    rcases Nat.mod_two_eq_zero_or_one x with h | h
    · obtain ⟨y, rfl⟩ : ∃ y, x = 2 * y := ⟨x / 2, by omega⟩
      obtain ⟨t, k, A, hk, e, -⟩ := ih y (by omega) (by omega)
      refine ⟨t + 1, k, A, hk, ?_, fun z => by omega⟩
      have e1 : 2 ^ (t + k + 1 + 1) * A = 2 * (2 ^ (t + k + 1) * A) := by rw [Nat.pow_succ 2 (t + k + 1), Nat.mul_comm (2 ^ (t + k + 1)) 2, Nat.mul_assoc]
      have e2 : 2 ^ (t + 1) * (2 ^ k - 1) = 2 * (2 ^ t * (2 ^ k - 1)) := by rw [Nat.pow_succ 2 t, Nat.mul_comm (2 ^ t) 2, Nat.mul_assoc]
      rw [show t + 1 + k + 1 = t + k + 1 + 1 by omega, e1, e2, ← Nat.mul_add, ← e]
    · obtain ⟨y, rfl⟩ : ∃ y, x = 2 * y + 1 := ⟨x / 2, by omega⟩
      rcases Nat.mod_two_eq_zero_or_one y with h2 | h2
      · refine ⟨0, 1, y / 2, Nat.le_refl 1, ?_, fun _ => rfl⟩
        show 2 * y + 1 = 4 * (y / 2) + 1 * 1
        omega
      · obtain ⟨t, k, A, hk, e, ht⟩ := ih y (by omega) (by omega)
        have ht := ht h2
        subst ht
        refine ⟨0, k + 1, A, by omega, ?_, fun _ => rfl⟩
        have hp := Nat.two_pow_pos k
        rw [Nat.zero_add] at e ⊢
        rw [e, Nat.pow_succ 2 (k + 1), Nat.pow_succ 2 k]
        rw [Nat.pow_zero, Nat.one_mul, Nat.one_mul]
        have e2 : 2 ^ k * 2 * 2 * A = 2 * (2 ^ k * 2 * A) := by rw [Nat.mul_comm (2 ^ k * 2) 2, Nat.mul_assoc]
        rw [e2]
        omega
theorem neg_not (y : Int32) : -y = (y - 1) ^^^ (-1) := by
  apply Int32.toBitVec_inj.mp
  show -y.toBitVec = (y.toBitVec - 1#32) ^^^ (BitVec.allOnes 32)
  rw [BitVec.xor_allOnes, ← BitVec.not_neg, BitVec.not_not]
def lowb (x : Nat) : Nat := nAnd x (x - 1)
theorem low_I {x : Nat} (h : 0 < x) : nI x &&& -(nI x) = nI (lowb x) := by
  rw [neg_not, show nI x - 1 = nI (x - 1) from pk_sub (a := x) (b := 1) h, nI_nAnd]; rfl
theorem low_at {t B : Nat} (hB : B % 2 = 1) : lowb (2 ^ t * B) = 2 ^ t := by
  obtain ⟨C, rfl⟩ : ∃ C, B = 2 * C + 1 := ⟨B / 2, by omega⟩
  have hp := Nat.two_pow_pos t
  have e1 : 2 ^ t * (2 * C + 1) - 1 = 2 ^ t * (2 * C) + (2 ^ t - 1) := by rw [Nat.mul_add]; omega
  have e0 : 2 ^ t * (2 * C + 1) = 2 ^ t * (2 * C + 1) + 0 := rfl
  apply Nat.eq_of_testBit_eq
  intro i
  unfold lowb
  rw [nAnd_test, e1, Nat.testBit_two_pow_mul_add (2 * C) (by omega : 2 ^ t - 1 < 2 ^ t) i, e0, Nat.testBit_two_pow_mul_add (2 * C + 1) hp i, Nat.testBit_two_pow]
  by_cases hi : i < t
  · rw [if_pos hi, if_pos hi, Nat.zero_testBit, decide_eq_false (by omega)]; rfl
  · rw [if_neg hi, if_neg hi]
    by_cases h2 : t = i
    · subst h2
      rw [Nat.sub_self, Nat.testBit_zero, Nat.testBit_zero]
      have a1 : (2 * C + 1) % 2 = 1 := by omega
      have a2 : (2 * C) % 2 = 0 := by omega
      simp [a1, a2]
    · obtain ⟨j, hj⟩ : ∃ j, i - t = j + 1 := ⟨i - t - 1, by omega⟩
      rw [hj, Nat.testBit_succ, Nat.testBit_succ, show (2 * C + 1) / 2 = C by omega, show 2 * C / 2 = C by omega, decide_eq_false h2]
      cases C.testBit j <;> rfl
/-- the next set of the same size -/
def gsN (x : Nat) : Nat := (((x ^^^ (x + lowb x)) >>> 2) / lowb x) ||| (x + lowb x)
theorem gs_mulp (t k : Nat) : 2 ^ (t + k) = 2 ^ t * 2 ^ k := Nat.pow_add 2 t k
theorem gs_xor {m A l h : Nat} (hl : l < 2 ^ m) (hh : h < 2 ^ m) : (2 ^ m * A + l) ^^^ (2 ^ m * A + h) = l ^^^ h := by
  apply Nat.eq_of_testBit_eq
  intro i
  rw [Nat.testBit_xor, Nat.testBit_xor, Nat.testBit_two_pow_mul_add A hl i, Nat.testBit_two_pow_mul_add A hh i]
  by_cases hi : i < m
  · rw [if_pos hi, if_pos hi]
  · rw [if_neg hi, if_neg hi, Bool.xor_self]
    have p := Nat.pow_le_pow_right (n := 2) (by decide) (Nat.not_lt.mp hi)
    rw [Nat.testBit_lt_two_pow (Nat.lt_of_lt_of_le hl p), Nat.testBit_lt_two_pow (Nat.lt_of_lt_of_le hh p)]; rfl
theorem gs_xor2 {m l : Nat} (hl : l < 2 ^ m) : l ^^^ 2 ^ m = 2 ^ m + l := by
  have e : 2 ^ m + l = 2 ^ m * 1 + l := by rw [Nat.mul_one]
  apply Nat.eq_of_testBit_eq
  intro i
  rw [e, Nat.testBit_two_pow_mul_add 1 hl i, Nat.testBit_xor, Nat.testBit_two_pow]
  by_cases hi : i < m
  · rw [if_pos hi, decide_eq_false (by omega), Bool.xor_false]
  · rw [if_neg hi, Nat.testBit_lt_two_pow (Nat.lt_of_lt_of_le hl (Nat.pow_le_pow_right (by decide) (Nat.not_lt.mp hi))), Bool.false_xor]
    by_cases h2 : m = i
    · subst h2; rw [Nat.sub_self]; simp
    · obtain ⟨j, hj⟩ : ∃ j, i - m = j + 1 := ⟨i - m - 1, by omega⟩
      rw [hj, Nat.testBit_succ, decide_eq_false h2]; simp
theorem gs_eq {t k A : Nat} (hk : 1 ≤ k) : gsN (2 ^ (t + k + 1) * A + 2 ^ t * (2 ^ k - 1)) = 2 ^ (t + k) * (2 * A + 1) + (2 ^ (k - 1) - 1) ∧ lowb (2 ^ (t + k + 1) * A + 2 ^ t * (2 ^ k - 1)) = 2 ^ t := by
  have pt := Nat.two_pow_pos t
  have pk := Nat.two_pow_pos k
  have e1 : 2 ^ (t + k + 1) * A = 2 ^ t * (2 ^ (k + 1) * A) := by rw [Nat.add_assoc, Nat.pow_add, Nat.mul_assoc]
  have eL : lowb (2 ^ (t + k + 1) * A + 2 ^ t * (2 ^ k - 1)) = 2 ^ t := by
    rw [e1, ← Nat.mul_add]
    apply low_at
    obtain ⟨j, rfl⟩ : ∃ j, k = j + 1 := ⟨k - 1, by omega⟩
    have : 2 ^ (j + 1) = 2 * 2 ^ j := by rw [Nat.pow_succ, Nat.mul_comm]
    have e3 : 2 ^ (j + 1 + 1) * A = 2 * (2 ^ (j + 1) * A) := by rw [Nat.pow_succ 2 (j + 1), Nat.mul_comm (2 ^ (j + 1)) 2, Nat.mul_assoc]
    rw [e3, this]
    have := Nat.two_pow_pos j
    omega
  refine ⟨?_, eL⟩
  unfold gsN
  rw [eL]
  have el : 2 ^ t * (2 ^ k - 1) + 2 ^ t = 2 ^ (t + k) := by rw [gs_mulp, Nat.mul_sub, Nat.mul_one]; have : 2 ^ t ≤ 2 ^ t * 2 ^ k := Nat.le_mul_of_pos_right _ pk; omega
  have hc : 2 ^ (t + k + 1) * A + 2 ^ t * (2 ^ k - 1) + 2 ^ t = 2 ^ (t + k + 1) * A + 2 ^ (t + k) := by rw [Nat.add_assoc, el]
  have h2 : 2 ^ (t + k + 1) = 2 * 2 ^ (t + k) := by rw [Nat.pow_succ, Nat.mul_comm]
  have pm := Nat.two_pow_pos (t + k)
  rw [hc, gs_xor (by omega) (by omega), gs_xor2 (by omega)]
  have e5 : 2 ^ (t + k) + 2 ^ t * (2 ^ k - 1) = 2 ^ t * (2 * 2 ^ k - 1) := by
    rw [gs_mulp, ← Nat.mul_add]; congr 1; omega
  have e6 : (2 ^ t * (2 * 2 ^ k - 1)) >>> 2 / 2 ^ t = 2 ^ (k - 1) - 1 := by
    rw [Nat.shiftRight_eq_div_pow, Nat.div_div_eq_div_mul, Nat.mul_comm (2 ^ 2) (2 ^ t), Nat.mul_div_mul_left _ _ pt]
    obtain ⟨j, rfl⟩ : ∃ j, k = j + 1 := ⟨k - 1, by omega⟩
    have : 2 ^ (j + 1) = 2 * 2 ^ j := by rw [Nat.pow_succ, Nat.mul_comm]
    rw [this, Nat.add_sub_cancel]
    have := Nat.two_pow_pos j
    show (2 * (2 * 2 ^ j) - 1) / 4 = 2 ^ j - 1
    omega
  rw [e5, e6, Nat.or_comm]
  have e7 : 2 ^ (t + k + 1) * A + 2 ^ (t + k) = 2 ^ (t + k) * (2 * A + 1) := by rw [h2, Nat.mul_add, Nat.mul_one, Nat.mul_comm 2 (2 ^ (t + k)), Nat.mul_assoc]
  have hb : 2 ^ (k - 1) - 1 < 2 ^ (t + k) := by
    have := Nat.pow_le_pow_right (n := 2) (by decide) (show k - 1 ≤ t + k by omega)
    have := Nat.two_pow_pos (k - 1)
    omega
  rw [e7, Nat.two_pow_add_eq_or_of_lt hb]
theorem cntTo_full {f : Nat → Bool} {n : Nat} (h : cntTo f n = n) : ∀ k, k < n → f k = true := by
  induction n with
  | zero => intro k hk; omega
  | succ n ih =>
    intro k hk
    rw [cntTo] at h
    have h1 := cntTo_le f n
    have h2 : Bool.toNat (f n) ≤ 1 := by cases f n <;> decide
    rcases Nat.lt_or_ge k n with q | q
    · exact ih (by omega) k q
    · have : k = n := by omega
      subst this
      cases hf : f k
      · rw [hf] at h; simp at h; omega
      · rfl
theorem popc_w {n N : Nat} (h : n < 2 ^ N) (hN : N ≤ 32) : popc n = cntTo (Nat.testBit n) N := by
  rw [popc, show 32 = N + (32 - N) by omega, cntTo_add, cntTo_no (f := fun k => Nat.testBit n (N + k)), Nat.add_zero]
  intro k _
  exact Nat.testBit_lt_two_pow (Nat.lt_of_lt_of_le h (Nat.pow_le_pow_right (by decide) (Nat.le_add_right N k)))
theorem popc_bd {n N : Nat} (h : n < 2 ^ N) (hN : N ≤ 32) : popc n ≤ N := by rw [popc_w h hN]; exact cntTo_le _ _
theorem popc_ones {k : Nat} (hk : k ≤ 32) : popc (2 ^ k - 1) = k := by
  have := Nat.two_pow_pos k
  rw [popc_w (N := k) (by omega) hk, cntTo_eq (g := fun _ => true) (fun j hj => by rw [Nat.testBit_two_pow_sub_one, decide_eq_true hj])]
  clear this hk
  induction k with
  | zero => rfl
  | succ k ih => rw [cntTo, ih]; rfl
theorem popc_max {n N : Nat} (h : n < 2 ^ N) (hN : N ≤ 32) (e : popc n = N) : n = 2 ^ N - 1 := by
  rw [popc_w h hN] at e
  have hf := cntTo_full e
  apply Nat.eq_of_testBit_eq
  intro i
  rw [Nat.testBit_two_pow_sub_one]
  by_cases hi : i < N
  · rw [hf i hi, decide_eq_true hi]
  · rw [decide_eq_false hi]; exact Nat.testBit_lt_two_pow (Nat.lt_of_lt_of_le h (Nat.pow_le_pow_right (by decide) (Nat.not_lt.mp hi)))
theorem popc_add {m a b : Nat} (hb : b < 2 ^ m) (hm : m ≤ 32) (ha : a < 2 ^ (32 - m)) : popc (2 ^ m * a + b) = popc a + popc b := by
  rw [popc_w (n := b) hb hm, popc_w (n := a) ha (by omega), popc]
  rw [show cntTo (Nat.testBit (2 ^ m * a + b)) 32 = cntTo (Nat.testBit (2 ^ m * a + b)) (m + (32 - m)) by rw [show m + (32 - m) = 32 by omega], cntTo_add, Nat.add_comm]
  congr 1
  · refine cntTo_eq fun k hk => ?_
    rw [Nat.testBit_two_pow_mul_add a hb, if_neg (by omega), show m + k - m = k by omega]
  · refine cntTo_eq fun k hk => ?_
    rw [Nat.testBit_two_pow_mul_add a hb, if_pos hk]
theorem popc_pos {b : Nat} (h : 0 < b) (h2 : b < 2 ^ 32) : 0 < popc b := by
  rw [popc_w h2 (Nat.le_refl 32)]
  rcases Nat.eq_zero_or_pos (cntTo (Nat.testBit b) 32) with z | z
  · exfalso
    have hz : ∀ n, cntTo (Nat.testBit b) n = 0 → ∀ k, k < n → Nat.testBit b k = false := by
      intro n
      induction n with
      | zero => intro _ k hk; omega
      | succ n ih =>
        intro e k hk
        rw [cntTo] at e
        rcases Nat.lt_or_ge k n with q | q
        · exact ih (by omega) k q
        · have : k = n := by omega
          subst this
          cases hf : Nat.testBit b k
          · rfl
          · rw [hf] at e; simp at e
    have : b = 0 := Nat.eq_of_testBit_eq fun i => by
      rw [Nat.zero_testBit]
      rcases Nat.lt_or_ge i 32 with q | q
      · exact hz 32 z i q
      · exact Nat.testBit_lt_two_pow (Nat.lt_of_lt_of_le h2 (Nat.pow_le_pow_right (by decide) q))
    omega
  · exact z
theorem popc_one : popc 1 = 1 := by decide
theorem gs_next {x : Nat} (hx : 0 < x) (h16 : x < 65536) : x < gsN x ∧ popc (gsN x) = popc x ∧ gsN x < 2 ^ 18 ∧ ∀ y, x < y → y < gsN x → popc y ≠ popc x := by
  obtain ⟨t, k, A, hk, ex, -⟩ := gs_dec x hx
  obtain ⟨eg, -⟩ := gs_eq (t := t) (A := A) hk
  rw [← ex] at eg
  obtain ⟨j, rfl⟩ : ∃ j, k = j + 1 := ⟨k - 1, by omega⟩
  rw [Nat.add_sub_cancel] at eg
  have pt := Nat.two_pow_pos t
  have pj := Nat.two_pow_pos j
  have p1 : 2 ^ (j + 1) = 2 * 2 ^ j := by rw [Nat.pow_succ, Nat.mul_comm]
  have pm := Nat.two_pow_pos (t + (j + 1))
  obtain ⟨M, hM⟩ : ∃ M, M = 2 ^ (t + (j + 1)) := ⟨_, rfl⟩
  have p2 : 2 ^ (t + (j + 1) + 1) = 2 * M := by rw [hM, Nat.pow_succ, Nat.mul_comm]
  have p3 : M = 2 ^ t * (2 * 2 ^ j) := by rw [hM, gs_mulp, p1]
  obtain ⟨J, hJ⟩ : ∃ J, J = 2 ^ j := ⟨_, rfl⟩
  obtain ⟨U, hU⟩ : ∃ U, U = 2 ^ t := ⟨_, rfl⟩
  have eL : 2 ^ t * (2 ^ (j + 1) - 1) = M - U := by rw [p1, p3, hU, Nat.mul_sub, Nat.mul_one]
  have hUM : U * 2 ≤ M := by rw [p3, ← hU, ← hJ]; exact Nat.mul_le_mul_left U (by omega)
  have hJM : J * 2 ≤ M := by
    rw [p3, ← hU, ← hJ, Nat.mul_comm J 2]; exact Nat.le_mul_of_pos_left _ (by omega)
  rw [p2, eL] at ex
  rw [← hM, ← hJ] at eg
  have hmm : t + (j + 1) ≤ 16 := by
    rcases Nat.lt_or_ge 16 (t + (j + 1)) with q | q
    · exfalso
      have := Nat.pow_le_pow_right (n := 2) (by decide) (show 17 ≤ t + (j + 1) by omega)
      rw [← hM] at this
      have : (2 : Nat) ^ 17 = 131072 := by decide
      omega
    · exact q
  have hM16 : M ≤ 65536 := by rw [hM]; exact Nat.pow_le_pow_right (n := 2) (by decide) hmm
  have hA : 2 * M * A < 65536 := by omega
  have hA2 : M * (2 * A + 1) = 2 * M * A + M := by rw [Nat.mul_add, Nat.mul_one, ← Nat.mul_assoc, Nat.mul_comm M 2]
  rw [hA2] at eg
  have hA32 : A < 65536 := Nat.lt_of_le_of_lt (Nat.le_mul_of_pos_left A (by omega : 0 < 2 * M)) hA
  have b15 : ∀ N, N ≤ 16 → A < 2 ^ (32 - N) := fun N hN => Nat.lt_of_lt_of_le (show A < 2 ^ 16 from hA32) (Nat.pow_le_pow_right (by decide) (by omega))
  have pA : ∀ b, b < 2 * M → popc (2 * M * A + b) = popc A + popc b := fun b hb => by
    rw [← p2] at hb ⊢
    exact popc_add hb (by omega) (by
      rcases Nat.eq_zero_or_pos A with z | z
      · rw [z]; exact Nat.two_pow_pos _
      · refine Nat.lt_of_lt_of_le (show A < 2 ^ 16 from hA32) (Nat.pow_le_pow_right (by decide) ?_)
        rcases Nat.lt_or_ge (t + (j + 1)) 16 with q | q
        · omega
        · exfalso
          have e16 : t + (j + 1) = 16 := by omega
          have e17 : M = 65536 := by rw [hM, e16]
          rw [e17] at hA
          omega)
  have pL : ∀ b, b < U → popc (2 ^ t * (2 ^ (j + 1) - 1) + b) = (j + 1) + popc b := fun b hb => by
    rw [hU] at hb
    rw [popc_add hb (by omega) (by
      have h1 : 2 ^ (j + 1) ≤ 2 ^ (32 - t) := Nat.pow_le_pow_right (by decide) (by omega)
      have := Nat.two_pow_pos (j + 1)
      omega), popc_ones (by omega)]
  have cx : popc x = popc A + (j + 1) := by
    rw [ex, pA _ (by omega), ← eL]
    have := pL 0 (by omega)
    rw [Nat.add_zero, popc_zero, Nat.add_zero] at this
    rw [this]
  have pH : ∀ b, b < M → popc (M + b) = 1 + popc b := fun b hb => by
    have e : M + b = 2 ^ (t + (j + 1)) * 1 + b := by rw [Nat.mul_one, ← hM]
    rw [e, popc_add (by rw [← hM]; exact hb) (by omega) (Nat.one_lt_two_pow (by omega)), popc_one]
  refine ⟨by omega, ?_, ?_, ?_⟩
  · rw [eg, Nat.add_assoc, pA _ (by omega), pH _ (by omega), cx, hJ, popc_ones (by omega)]
    omega
  · have : (2 : Nat) ^ 18 = 262144 := by decide
    omega
  · intro y h1 h2
    obtain ⟨b, rfl⟩ : ∃ b, y = 2 * M * A + b := ⟨y - 2 * M * A, by omega⟩
    rw [pA b (by omega), cx]
    intro e
    have e : popc b = j + 1 := by omega
    rcases Nat.lt_or_ge b M with q | q
    · obtain ⟨r, hr⟩ : ∃ r, b = (M - U) + r := ⟨b - (M - U), by omega⟩
      have hr0 : 0 < r := by omega
      have hrU : r < U := by omega
      rw [hr, ← eL, pL r hrU] at e
      have := popc_pos hr0 (Nat.lt_of_lt_of_le hrU (by rw [hU]; exact Nat.pow_le_pow_right (by decide) (by omega)))
      omega
    · obtain ⟨r, hr⟩ : ∃ r, b = M + r := ⟨b - M, by omega⟩
      have hrJ : r < J - 1 := by omega
      rw [hr, pH r (by omega)] at e
      have := popc_max (n := r) (N := j) (by omega) (by omega) (by omega)
      omega
