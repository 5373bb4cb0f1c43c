set_option maxRecDepth 100000
theorem cntTo_sub {f g : Nat → Bool} {n : Nat} (h : ∀ k, k < n → f k = true → g k = true) : cntTo f n ≤ cntTo g n := by
  induction n with
  | zero => exact Nat.le_refl 0
  | succ n ih =>
    rw [cntTo, cntTo]
    have h1 := ih (fun k hk => h k (by omega))
    have h2 := h n (by omega)
    cases hf : f n
    · simp; omega
    · rw [h2 hf]; simp; omega
theorem popc_sub {y s : Nat} (h : nAnd y s = 0) : popc y ≤ popc s := by
  refine cntTo_sub fun k _ hk => ?_
  have a := congrArg (fun z => Nat.testBit z k) h
  simp only [nAnd_test, Nat.zero_testBit, hk, Bool.true_and] at a
  cases hs : s.testBit k
  · rw [hs] at a; cases a
  · rfl
def okF (P : Nat → Nat → Nat) (some wi y : Nat) : Bool := decide (nAnd y some = 0) && decide (covF P (y ||| wi) = covF P 65535)
theorem sm_inv (P : Nat → Nat → Nat) (some wi : Nat) : ∀ N, N ≤ 65536 → ((∀ y, y < N → okF P some wi y = false) ∧ smTo P some wi N = (-1, 17)) ∨ ∃ y, y < N ∧ okF P some wi y = true ∧ smTo P some wi N = (nI y, popc y) ∧ (∀ z, z < N → okF P some wi z = true → popc y ≤ popc z) ∧ ∀ z, z < y → okF P some wi z = true → popc y < popc z := by
  intro N
  induction N with
  | zero => intro _; exact Or.inl ⟨fun y hy => absurd hy (Nat.not_lt_zero y), rfl⟩
  | succ N ih =>
    intro hN
    have hb := popc_bd (n := N) (N := 16) (by show N < 65536; omega) (by decide)
    have hok : okF P some wi N = true ↔ (nAnd N some = 0 ∧ covF P (N ||| wi) = covF P 65535) := by unfold okF; simp
    rcases ih (by omega) with ⟨h1, h2⟩ | ⟨y, hy, ok, h2, h3, h4⟩
    · by_cases q : okF P some wi N = true
      · obtain ⟨q1, q2⟩ := hok.mp q
        refine Or.inr ⟨N, by omega, q, ?_, fun z hz hk => ?_, fun z hz hk => ?_⟩
        · rw [smTo, h2, if_pos ⟨q1, by show popc N < 17; omega, q2⟩]
        · rcases Nat.lt_or_ge z N with a | a
          · rw [h1 z a] at hk; cases hk
          · have : z = N := by omega
            subst this; exact Nat.le_refl _
        · rw [h1 z hz] at hk; cases hk
      · refine Or.inl ⟨fun y hy => ?_, ?_⟩
        · rcases Nat.lt_or_ge y N with a | a
          · exact h1 y a
          · have : y = N := by omega
            subst this; exact Bool.eq_false_iff.mpr q
        · rw [smTo, if_neg (fun z => q (hok.mpr ⟨z.1, z.2.2⟩)), h2]
    · by_cases q : okF P some wi N = true ∧ popc N < popc y
      · obtain ⟨q1, q2⟩ := hok.mp q.1
        refine Or.inr ⟨N, by omega, q.1, ?_, fun z hz hk => ?_, fun z hz hk => ?_⟩
        · rw [smTo, h2, if_pos ⟨q1, q.2, q2⟩]
        · rcases Nat.lt_or_ge z N with a | a
          · have := h3 z a hk; omega
          · have : z = N := by omega
            subst this; exact Nat.le_refl _
        · have := h3 z hz hk; omega
      · refine Or.inr ⟨y, by omega, ok, ?_, fun z hz hk => ?_, h4⟩
        · rw [smTo, h2, if_neg (fun z => q ⟨hok.mpr ⟨z.1, z.2.2⟩, z.2.1⟩)]
        · rcases Nat.lt_or_ge z N with a | a
          · exact h3 z a hk
          · have : z = N := by omega
            subst this
            exact Nat.not_lt.mp (fun w => q ⟨hk, w⟩)
/-- the fewest vectors, both ways -/
theorem fw_sm {P : Nat → Nat → Nat} {some wi : Nat} {g : Nat → Bool} (hg : ∀ y, y < 65536 → g y = okF P some wi y) : (fwTo g (popc some + 1)).elim (-1) nI = (smTo P some wi 65536).1 := by
  have frn : ∀ k, (∀ z, z < 65536 → popc z = k → okF P some wi z = false) → frO g k = none := fun k h => fnd_no fun z hz => by
    by_cases q : popc z = k
    · rw [hg z hz, h z hz q]; simp
    · rw [decide_eq_false q]; rfl
  have fwn : ∀ n, (∀ k, k < n → frO g k = none) → fwTo g n = none := by
    intro n
    induction n with
    | zero => intro _; rfl
    | succ n ih => intro h; exact fw_no (ih fun k hk => h k (by omega)) (h n (by omega))
  rcases sm_inv P some wi 65536 (Nat.le_refl _) with ⟨h1, h2⟩ | ⟨y, hy, ok, h2, h3, h4⟩
  · rw [h2, fwn _ (fun k _ => frn k fun z hz _ => h1 z hz)]; rfl
  · have hs : popc y ≤ popc some := by
      have : nAnd y some = 0 := by unfold okF at ok; simp at ok; exact ok.1
      exact popc_sub this
    have e1 : frO g (popc y) = Option.some y := fnd_yes (by rw [hg y hy, ok]; simp) (fun z hz => by
      by_cases q : popc z = popc y
      · rw [hg z (by omega)]
        cases hk : okF P some wi z
        · simp
        · have := h4 z hz hk; omega
      · rw [decide_eq_false q]; rfl) hy
    have e2 : fwTo g (popc y) = none := fwn _ fun k hk => frn k fun z hz q => by
      cases ho : okF P some wi z
      · rfl
      · have := h3 z hz ho; omega
    rw [fw_yes e2 (by rw [e1]; exact fun z => by cases z) (by omega), e1, h2]; rfl
