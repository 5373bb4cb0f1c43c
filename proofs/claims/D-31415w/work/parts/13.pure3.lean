set_option maxRecDepth 100000
/-! PURE: reading. The reference's state while it reads: 16 the place, 17 whether it has failed, 2 how long the text is, 3 the decision that is read -/
def nxF (M : MS) : Int32 := if M.1 16 < M.1 2 then nI (M.2 1 (M.1 16)) else -1
def tkF (M : MS) (g : Nat) : Bool := decide (M.1 17 = 0) && decide (nxF M = nI g)
def adv (M : MS) : MS := sF M 16 (M.1 16 + 1)
def mkI (M : MS) : Nat := M.1 3 * 40 + M.2 7 (M.1 3)
def mkM (M : MS) (t x y : Nat) : MS := if M.1 17 = 0 then sA (sA (sA (sA M 4 (mkI M) t) 5 (mkI M) x) 6 (mkI M) y) 7 (M.1 3) (M.2 7 (M.1 3) + 1) else M
def mkR (M : MS) : Nat := if M.1 17 = 0 then M.2 7 (M.1 3) else 0
/-- a letter can't be read here -/
def ltF (M : MS) : Bool := !decide (M.1 17 = 0) || (!(decide (nI 97 ≤ nxF M) && decide (nxF M ≤ nI 100)) || decide (M.2 9 (M.1 3) = 8))
def ltM (M : MS) : MS := if ltF M = true then sF M 17 1 else mkM (sA (sF (sA (sF M 17 0) 8 (M.1 3 * 8 + M.2 9 (M.1 3)) (M.2 1 (M.1 16) - 97)) 16 (M.1 16 + 1)) 9 (M.1 3) (M.2 9 (M.1 3) + 1)) 0 (M.2 9 (M.1 3)) 0
def ltR (M : MS) : Nat := if ltF M = true then 0 else M.2 7 (M.1 3)
/-- the closing bracket -/
def clF (M : MS) : Bool := !decide (M.1 17 = 0) || !decide (nxF M = nI 41)
def clM (M : MS) : MS := if clF M = true then sF M 17 1 else sF (sF M 17 0) 16 (M.1 16 + 1)
def mkC (t : Nat) : Nat := if t = 3 then 124 else if t = 4 then 94 else 38
def sbT (t : Nat) : Nat := if t = 2 then 0 else if t = 3 then 4 else 2
/-- the reading: tag 0 one, 2, 3, 4 a chain of that sign, 12, 13, 14 the rest of a chain behind 'its' -/
def PR : Nat → Nat → Nat → MS → Nat × MS
  | 0, _, _, M => (0, M)
  | n + 1, t, its, M =>
    if t = 0 then
      (if tkF M 33 = true then (mkR (PR n 0 0 (adv M)).2, mkM (PR n 0 0 (adv M)).2 1 (PR n 0 0 (adv M)).1 0)
       else if tkF M 40 = true then ((PR n 3 0 (adv M)).1, clM (PR n 3 0 (adv M)).2)
       else (ltR M, ltM M))
    else if t < 10 then PR n (t + 10) (PR n (sbT t) 0 M).1 (PR n (sbT t) 0 M).2
    else if tkF M (mkC (t - 10)) = true then PR n t (mkR (PR n (sbT (t - 10)) 0 (adv M)).2) (mkM (PR n (sbT (t - 10)) 0 (adv M)).2 (t - 10) its (PR n (sbT (t - 10)) 0 (adv M)).1)
    else (its, M)
theorem PR_0 (n its : Nat) (M : MS) : PR (n + 1) 0 its M = if tkF M 33 = true then (mkR (PR n 0 0 (adv M)).2, mkM (PR n 0 0 (adv M)).2 1 (PR n 0 0 (adv M)).1 0) else if tkF M 40 = true then ((PR n 3 0 (adv M)).1, clM (PR n 3 0 (adv M)).2) else (ltR M, ltM M) := by
  rw [PR, if_pos rfl]
theorem PR_c {n t its : Nat} {M : MS} (h0 : ¬ t = 0) (h : t < 10) : PR (n + 1) t its M = PR n (t + 10) (PR n (sbT t) 0 M).1 (PR n (sbT t) 0 M).2 := by
  rw [PR, if_neg h0, if_pos h]
theorem PR_l {n t its : Nat} {M : MS} (h : ¬ t < 10) : PR (n + 1) t its M = if tkF M (mkC (t - 10)) = true then PR n t (mkR (PR n (sbT (t - 10)) 0 (adv M)).2) (mkM (PR n (sbT (t - 10)) 0 (adv M)).2 (t - 10) its (PR n (sbT (t - 10)) 0 (adv M)).1) else (its, M) := by
  rw [PR, if_neg (by omega), if_neg h]
theorem mkM_1 (M : MS) (t x y k : Nat) : (mkM M t x y).1 k = M.1 k := by unfold mkM; split <;> rfl
theorem mkM_o (M : MS) (t x y k : Nat) (h4 : k ≠ 4) (h5 : k ≠ 5) (h6 : k ≠ 6) (h7 : k ≠ 7) : (mkM M t x y).2 k = M.2 k := by
  have q : ∀ j, k ≠ j → Nat.beq k j = false := fun j h => by rw [← Bool.not_eq_true]; exact fun z => h (Nat.eq_of_beq_eq_true z)
  unfold mkM; split
  · simp only [sA, q 4 h4, q 5 h5, q 6 h6, q 7 h7, cond_false]
  · rfl
theorem mkM_7 (M : MS) (t x y : Nat) (h : M.1 17 = 0) : (mkM M t x y).2 7 = fun z => if z = M.1 3 then M.2 7 (M.1 3) + 1 else M.2 7 z := by
  rw [mkM, if_pos h]; rfl
theorem mkM_id (M : MS) (t x y : Nat) (h : ¬ M.1 17 = 0) : mkM M t x y = M := by rw [mkM, if_neg h]
/-- what holds while it reads -/
def PI (M : MS) : Prop := M.1 2 ≤ 40 ∧ (∀ j, j < M.1 2 → M.2 1 j < 128) ∧ M.1 16 ≤ M.1 2 ∧ M.1 17 ≤ 1 ∧ M.1 3 < 6 ∧ M.2 9 (M.1 3) ≤ 8 ∧ M.2 7 (M.1 3) ≤ M.1 16
/-- how it goes on -/
def PG (M N : MS) : Prop := N.1 2 = M.1 2 ∧ N.1 3 = M.1 3 ∧ N.2 1 = M.2 1 ∧ M.1 16 ≤ N.1 16 ∧ N.2 7 (M.1 3) + M.1 16 ≤ M.2 7 (M.1 3) + N.1 16 ∧ M.2 7 (M.1 3) ≤ N.2 7 (M.1 3) ∧ PI N
theorem PG.rf {M : MS} (h : PI M) : PG M M := ⟨rfl, rfl, rfl, Nat.le_refl _, Nat.le_refl _, Nat.le_refl _, h⟩
theorem PG.tr {M N K : MS} (h : PG M N) (g : PG N K) : PG M K := by
  obtain ⟨a1, a2, a3, a4, a5, a6, a7⟩ := h
  obtain ⟨b1, b2, b3, b4, b5, b6, b7⟩ := g
  rw [a2] at b5 b6
  exact ⟨b1.trans a1, b2.trans a2, b3.trans a3, by omega, by omega, by omega, b7⟩
theorem tk_at {M : MS} {g : Nat} (h : tkF M g = true) (hg : g < 128) : M.1 17 = 0 ∧ M.1 16 < M.1 2 := by
  rw [tkF, Bool.and_eq_true_iff, decide_eq_true_eq, decide_eq_true_eq] at h
  refine ⟨h.1, ?_⟩
  have h2 := h.2
  rw [nxF] at h2
  split at h2
  · assumption
  · exact absurd h2.symm (nI_m1 (by omega))
theorem PI.adv {M : MS} (h : PI M) (h2 : M.1 16 < M.1 2) : PI (adv M) := by
  obtain ⟨a1, a2, a3, a4, a5, a6, a7⟩ := h
  exact ⟨a1, a2, h2, a4, a5, a6, Nat.le_succ_of_le a7⟩
/-- one char, one part at most -/
theorem PG.mk1 {M N : MS} (h : PG (Jvm.Pilot.CConditionWiseLaw_law_r2099_56f706.adv M) N) (h0 : PI M) (t x y : Nat) : PG M (mkM N t x y) := by
  obtain ⟨b1, b2, b3, b4, b5, b6, b7⟩ := h
  have b1 : N.1 2 = M.1 2 := b1
  have b2 : N.1 3 = M.1 3 := b2
  have b3 : N.2 1 = M.2 1 := b3
  have b4 : M.1 16 + 1 ≤ N.1 16 := b4
  have b5 : N.2 7 (M.1 3) + (M.1 16 + 1) ≤ M.2 7 (M.1 3) + N.1 16 := b5
  have b6 : M.2 7 (M.1 3) ≤ N.2 7 (M.1 3) := b6
  obtain ⟨c1, c2, c3, c4, c5, c6, c7⟩ := b7
  obtain ⟨d1, d2, d3, d4, d5, d6, d7⟩ := h0
  by_cases hf : N.1 17 = 0
  · have e7 : (mkM N t x y).2 7 (M.1 3) = N.2 7 (M.1 3) + 1 := by rw [mkM_7 N t x y hf, b2]; simp
    have e7' : (mkM N t x y).2 7 (N.1 3) = N.2 7 (M.1 3) + 1 := by rw [b2]; exact e7
    refine ⟨by rw [mkM_1]; exact b1, by rw [mkM_1]; exact b2, by rw [mkM_o _ _ _ _ _ (by decide) (by decide) (by decide) (by decide)]; exact b3, by rw [mkM_1]; omega, by rw [mkM_1, e7]; omega, by rw [e7]; omega, ?_⟩
    unfold PI
    simp only [mkM_1]
    rw [mkM_o _ _ _ _ 1 (by decide) (by decide) (by decide) (by decide), mkM_o _ _ _ _ 9 (by decide) (by decide) (by decide) (by decide), e7']
    exact ⟨c1, c2, c3, c4, c5, c6, by omega⟩
  · rw [mkM_id _ _ _ _ hf]
    exact ⟨b1, b2, b3, by omega, by omega, b6, c1, c2, c3, c4, c5, c6, c7⟩
theorem lt_no {M : MS} (h : ltF M = false) : M.1 17 = 0 ∧ M.1 16 < M.1 2 ∧ nI 97 ≤ nxF M ∧ nxF M ≤ nI 100 ∧ ¬ M.2 9 (M.1 3) = 8 := by
  rw [ltF, Bool.or_eq_false_iff, Bool.or_eq_false_iff, Bool.not_eq_false', Bool.not_eq_false', Bool.and_eq_true_iff, decide_eq_true_eq, decide_eq_true_eq, decide_eq_true_eq, decide_eq_false_iff_not] at h
  obtain ⟨h1, ⟨h2, h3⟩, h4⟩ := h
  refine ⟨h1, ?_, h2, h3, h4⟩
  rw [nxF] at h2
  split at h2
  · assumption
  · exact absurd h2 (by decide)
theorem lt_val {M : MS} (h : ltF M = false) (hp : PI M) : 97 ≤ M.2 1 (M.1 16) ∧ M.2 1 (M.1 16) ≤ 100 ∧ nxF M = nI (M.2 1 (M.1 16)) := by
  obtain ⟨h1, h2, h3, h4, -⟩ := lt_no h
  have hb := hp.2.1 _ h2
  have e : nxF M = nI (M.2 1 (M.1 16)) := by rw [nxF, if_pos h2]
  rw [e] at h3 h4
  rw [nI_leI (by decide) (by omega)] at h3
  rw [nI_leI (by omega) (by decide)] at h4
  exact ⟨h3, h4, e⟩
theorem PG.lt {M : MS} (h : PI M) : PG M (ltM M) := by
  have h0 := h
  obtain ⟨d1, d2, d3, d4, d5, d6, d7⟩ := h
  unfold ltM
  split
  · exact ⟨rfl, rfl, rfl, Nat.le_refl _, Nat.le_refl _, Nat.le_refl _, d1, d2, d3, Nat.le_refl _, d5, d6, d7⟩
  · rename_i hl
    have hl := eq_false_of_ne_true hl
    obtain ⟨l1, l2, l3, l4, l5⟩ := lt_no hl
    apply PG.mk1 (M := M) _ h0
    refine ⟨rfl, rfl, rfl, Nat.le_refl _, Nat.le_refl _, Nat.le_refl _, d1, d2, l2, Nat.zero_le _, d5, ?_, Nat.le_succ_of_le d7⟩
    show (if M.1 3 = M.1 3 then M.2 9 (M.1 3) + 1 else M.2 9 (M.1 3)) ≤ 8
    rw [if_pos rfl]; omega
theorem PG.cl {M : MS} (h : PI M) : PG M (clM M) := by
  have h0 := h
  obtain ⟨d1, d2, d3, d4, d5, d6, d7⟩ := h
  unfold clM
  split
  · exact ⟨rfl, rfl, rfl, Nat.le_refl _, Nat.le_refl _, Nat.le_refl _, d1, d2, d3, Nat.le_refl _, d5, d6, d7⟩
  · rename_i hl
    have hl := eq_false_of_ne_true hl
    rw [clF, Bool.or_eq_false_iff, Bool.not_eq_false', Bool.not_eq_false', decide_eq_true_eq, decide_eq_true_eq] at hl
    have hlt : M.1 16 < M.1 2 := by
      have h2 := hl.2
      rw [nxF] at h2
      split at h2
      · assumption
      · exact absurd h2 (by decide)
    refine ⟨rfl, rfl, rfl, Nat.le_succ _, ?_, Nat.le_refl _, d1, d2, hlt, Nat.zero_le _, d5, d6, Nat.le_succ_of_le d7⟩
    show M.2 7 (M.1 3) + M.1 16 ≤ M.2 7 (M.1 3) + (M.1 16 + 1)
    omega
theorem PG.ad {M N : MS} (h : PG (Jvm.Pilot.CConditionWiseLaw_law_r2099_56f706.adv M) N) : PG M N := by
  obtain ⟨b1, b2, b3, b4, b5, b6, b7⟩ := h
  have b4 : M.1 16 + 1 ≤ N.1 16 := b4
  have b5 : N.2 7 (M.1 3) + (M.1 16 + 1) ≤ M.2 7 (M.1 3) + N.1 16 := b5
  exact ⟨b1, b2, b3, by omega, by omega, b6, b7⟩
theorem mkC_lt (t : Nat) : mkC t < 128 := by unfold mkC; split <;> (try split) <;> decide
theorem PR_keep : ∀ (n t its : Nat) (M : MS), PI M → PG M (PR n t its M).2 := by
  intro n
  induction n with
  | zero => intro t its M h; exact PG.rf h
  | succ n ih =>
    intro t its M h
    by_cases h0 : t = 0
    · subst h0
      rw [PR_0]
      by_cases k1 : tkF M 33 = true
      · rw [if_pos k1]
        exact (ih 0 0 (adv M) (h.adv (tk_at k1 (by decide)).2)).mk1 h _ _ _
      · rw [if_neg k1]
        by_cases k2 : tkF M 40 = true
        · rw [if_pos k2]
          have g := ih 3 0 (adv M) (h.adv (tk_at k2 (by decide)).2)
          exact (g.tr (PG.cl g.2.2.2.2.2.2)).ad
        · rw [if_neg k2]
          exact PG.lt h
    · by_cases h10 : t < 10
      · rw [PR_c h0 h10]
        have g := ih (sbT t) 0 M h
        exact g.tr (ih _ _ _ g.2.2.2.2.2.2)
      · rw [PR_l h10]
        by_cases k1 : tkF M (mkC (t - 10)) = true
        · rw [if_pos k1]
          have g := (ih (sbT (t - 10)) 0 (adv M) (h.adv (tk_at k1 (mkC_lt _)).2)).mk1 h (t - 10) its (PR n (sbT (t - 10)) 0 (adv M)).1
          exact g.tr (ih _ _ _ g.2.2.2.2.2.2)
        · rw [if_neg k1]
          exact PG.rf h
theorem rd_pm {M N : MS} (h0 : PI M) (s1 : N.1 2 = (adv M).1 2) (s2 : N.1 3 = (adv M).1 3) (s5 : N.2 7 ((adv M).1 3) + (adv M).1 16 ≤ (adv M).2 7 ((adv M).1 3) + N.1 16) (r3 : N.1 16 ≤ N.1 2) (r7 : N.2 7 (N.1 3) ≤ N.1 16) : N.2 7 (N.1 3) < 40 := by
  obtain ⟨d1, d2, d3, d4, d5, d6, d7⟩ := h0
  have s1 : N.1 2 = M.1 2 := s1
  have s2 : N.1 3 = M.1 3 := s2
  have s5 : N.2 7 (M.1 3) + (M.1 16 + 1) ≤ M.2 7 (M.1 3) + N.1 16 := s5
  rw [s2]
  omega
theorem clM_17 (M : MS) : (clM M).1 17 = Bool.toNat (clF M) := by unfold clM; cases clF M <;> rfl
theorem clM_16 (M : MS) : (clM M).1 16 = M.1 16 + Bool.toNat (!clF M) := by unfold clM; cases clF M <;> rfl
theorem clM_1 (M : MS) (k : Nat) (h : k ≠ 16) (h' : k ≠ 17) : (clM M).1 k = M.1 k := by
  have q : ∀ j, k ≠ j → Nat.beq k j = false := fun j h => by rw [← Bool.not_eq_true]; exact fun z => h (Nat.eq_of_beq_eq_true z)
  unfold clM; split <;> simp only [sF, q 16 h, q 17 h', cond_false]
theorem clM_2 (M : MS) : (clM M).2 = M.2 := by unfold clM; split <;> rfl
theorem rd_g {M N : MS} {pr : Nat × MS} {t x y : Nat} (h : PI M) (_ : PI (adv M)) (e : N = pr.2) (g : PG (adv M) pr.2) : PG M (mkM N t x y) := by
  rw [← e] at g
  exact g.mk1 h t x y
theorem rd_m {M N : MS} {pr : Nat × MS} {t x y i : Nat} (h : PI M) (_ : PI (adv M)) (e : N = pr.2) (g : PG (adv M) pr.2) (hlt : M.1 16 < M.1 2) (hi : 6 * (M.1 2 - M.1 16) ≤ i + 1) : 6 * ((mkM N t x y).1 2 - (mkM N t x y).1 16) + 2 ≤ i := by
  rw [← e] at g
  have b1 : N.1 2 = M.1 2 := g.1
  have b4 : M.1 16 + 1 ≤ N.1 16 := g.2.2.2.1
  rw [mkM_1, mkM_1, b1]
  omega
theorem sF_n (M : MS) (k v j : Nat) (h : j ≠ k) : (sF M k v).1 j = M.1 j := by
  have : Nat.beq j k = false := by rw [← Bool.not_eq_true]; exact fun z => h (Nat.eq_of_beq_eq_true z)
  simp only [sF, this, cond_false]
theorem ltM_1 (M : MS) (k : Nat) (h : k ≠ 16) (h' : k ≠ 17) : (ltM M).1 k = M.1 k := by
  unfold ltM; split
  · exact sF_n _ _ _ _ h'
  · rw [mkM_1]
    show (sF (sA (sF M 17 0) 8 (M.1 3 * 8 + M.2 9 (M.1 3)) (M.2 1 (M.1 16) - 97)) 16 (M.1 16 + 1)).1 k = _
    rw [sF_n _ _ _ _ h]
    exact sF_n _ _ _ _ h'
theorem PR_1 : ∀ (n t its : Nat) (M : MS) (k : Nat), k ≠ 16 → k ≠ 17 → (PR n t its M).2.1 k = M.1 k := by
  intro n
  induction n with
  | zero => intro t its M k _ _; rfl
  | succ n ih =>
    intro t its M k h h'
    have ha : (adv M).1 k = M.1 k := sF_n _ _ _ _ h
    by_cases h0 : t = 0
    · subst h0
      rw [PR_0]
      split
      · show (mkM _ _ _ _).1 k = _
        rw [mkM_1, ih _ _ _ _ h h', ha]
      · split
        · show (clM _).1 k = _
          rw [clM_1 _ _ h h', ih _ _ _ _ h h', ha]
        · exact ltM_1 _ _ h h'
    · by_cases h10 : t < 10
      · rw [PR_c h0 h10, ih _ _ _ _ h h', ih _ _ _ _ h h']
      · rw [PR_l h10]
        split
        · rw [ih _ _ _ _ h h', mkM_1, ih _ _ _ _ h h', ha]
        · rfl
/-- the reference's read -/
def rd0 (M : MS) : MS := sA (sA (sA (sF (sF (sF M 0 0) 16 0) 17 0) 7 (M.1 3) 0) 9 (M.1 3) 0) 10 (M.1 3) 0
def rd1 (M : MS) : MS := (PR 245 3 0 (rd0 M)).2
def rdB (M : MS) : Bool := !decide ((rd1 M).1 17 = 0) || !decide ((rd1 M).1 2 ≤ (rd1 M).1 16)
def rdR (M : MS) : Int32 := if M.1 3 = 6 then 0 else if rdB M = true then (-2) - nI ((rd1 M).1 16) else nI (M.1 3)
def rdT (M : MS) : Nat := if M.1 3 = 6 then 1 else 0
def rdM (M : MS) : MS := if M.1 3 = 6 then M else if rdB M = true then sF (rd1 M) 2 0 else sF (sF (rd1 M) 2 0) 3 (M.1 3 + 1)
theorem rd0_PI {M : MS} (h : mI M) (h6 : ¬ M.1 3 = 6) : PI (rd0 M) := by
  obtain ⟨h1, h2, h3, h4, h5, h6'⟩ := h
  refine ⟨h4, fun j hj => (h5 j hj).2, Nat.zero_le _, Nat.zero_le _, ?_, ?_, ?_⟩
  · show M.1 3 < 6; omega
  · show (if M.1 3 = M.1 3 then 0 else _) ≤ 8; rw [if_pos rfl]; omega
  · show (if M.1 3 = M.1 3 then 0 else _) ≤ 0; rw [if_pos rfl]; omega
theorem rd1_PG {M : MS} (h : mI M) (h6 : ¬ M.1 3 = 6) : PG (rd0 M) (rd1 M) := PR_keep _ _ _ _ (rd0_PI h h6)
/-- the reference's put -/
def apM (M : MS) (x y z : Int32) : Nat → MS
  | 0 => M
  | i + 1 => if byF x y z i = 0 then apM M x y z i else sF (sA (apM M x y z i) 1 ((apM M x y z i).1 2) (byF x y z i)) 2 ((apM M x y z i).1 2 + 1)
def ptN (x y z : Int32) (i : Nat) : Nat := cntTo (fun k => !decide (byF x y z k = 0)) i
def ptH (x y z : Int32) (i : Nat) : Bool := anyTo (fun k => !decide (byF x y z k ≤ 127)) i
def ptT (M : MS) (x y z : Int32) : Nat := if ptH x y z 12 = true then 1 else if 40 < M.1 2 + ptN x y z 12 then 2 else 0
theorem cntTo_mono (f : Nat → Bool) {i n : Nat} (h : i ≤ n) : cntTo f i ≤ cntTo f n := by
  induction n with
  | zero => have : i = 0 := by omega
            subst this; exact Nat.le_refl _
  | succ n ih =>
    rcases Nat.lt_or_ge i (n + 1) with q | q
    · have := ih (by omega); rw [cntTo]; omega
    · have : i = n + 1 := by omega
      subst this; exact Nat.le_refl _
theorem apM_2 (M : MS) (x y z : Int32) (i : Nat) : (apM M x y z i).1 2 = M.1 2 + ptN x y z i := by
  induction i with
  | zero => rfl
  | succ i ih =>
    rw [apM, ptN, cntTo]
    by_cases h : byF x y z i = 0
    · rw [if_pos h, ih, ptN]; simp [h]
    · rw [if_neg h]
      show (apM M x y z i).1 2 + 1 = _
      rw [ih, ptN]; simp [h]; omega
theorem apM_core {M N : MS} (h : coreq M N) (x y z : Int32) (i : Nat) : coreq (apM M x y z i) (apM N x y z i) := by
  induction i with
  | zero => exact h
  | succ i ih =>
    rw [apM, apM]
    split
    · exact ih
    · obtain ⟨a1, a2⟩ := ih
      have e2 := a1 2 (Or.inl rfl)
      have e1 := a2 1 (Or.inl rfl)
      refine coreq.mk ?_ (a1 3 (by omega)) (a1 15 (by omega)) ?_ (a2 4 (by omega)) (a2 5 (by omega)) (a2 6 (by omega)) (a2 7 (by omega)) (a2 8 (by omega)) (a2 9 (by omega)) (a2 10 (by omega)) (a2 11 (by omega)) (a2 12 (by omega)) (a2 13 (by omega)) (a2 14 (by omega))
      · show (apM N x y z i).1 2 + 1 = (apM M x y z i).1 2 + 1
        rw [e2]
      · show (fun q => if q = (apM N x y z i).1 2 then byF x y z i else (apM N x y z i).2 1 q) = fun q => if q = (apM M x y z i).1 2 then byF x y z i else (apM M x y z i).2 1 q
        rw [e2, e1]
theorem apM_0 (M : MS) (x y z : Int32) (i : Nat) : (apM M x y z i).1 0 = M.1 0 := by
  induction i with
  | zero => rfl
  | succ i ih =>
    rw [apM]
    split
    · exact ih
    · exact ih
theorem byF_lt (x y z : Int32) (k : Nat) : byF x y z k < 256 := Nat.lt_of_le_of_lt Nat.and_le_right (by decide)
theorem ite01 {P : Prop} [Decidable P] : (if P then 0 else 1) = Bool.toNat (!decide P) := by by_cases h : P <;> simp [h]
theorem ptN_lt {x y z : Int32} {i : Nat} (hi : i < 12) (h : ¬ byF x y z i = 0) : ptN x y z i < ptN x y z 12 := by
  have h1 : ptN x y z (i + 1) = ptN x y z i + 1 := by rw [ptN, cntTo]; simp [h, ptN]
  have h2 : ptN x y z (i + 1) ≤ ptN x y z 12 := cntTo_mono _ hi
  omega
