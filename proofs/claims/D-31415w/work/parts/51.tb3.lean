set_option maxRecDepth 100000
theorem pc_at {P : Nat → Nat} {i j : Nat} (hj : j < 16) : pcF P (16 * i + j) = (decide (i < j) && (P i).testBit j) := by
  unfold pcF
  rw [show (16 * i + j) / 16 = i by omega, show (16 * i + j) % 16 = j by omega]
theorem pa_lx {f : Nat → Bool} {z lf : Int32} {n : Nat} {b : Bool} (hl : lf = z - nI (cntTo f n)) (hb : f n = b) : lf - nI (Bool.toNat b) = z - nI (cntTo f (n + 1)) := by
  refine pa_lf hl ?_
  cases b
  · exact Or.inr ⟨hb, by show lf - 0 = lf; grind⟩
  · exact Or.inl ⟨hb, by show lf - 1 = lf + (-1); grind⟩
theorem pa_skip {f : Nat → Bool} {z : Int32} {m : Nat} (h : paS f z m = none) : ∀ n, (∀ k, m ≤ k → k < m + n → f k = false) → paS f z (m + n) = none ∧ cntTo f (m + n) = cntTo f m := by
  intro n
  induction n with
  | zero => intro _; exact ⟨h, rfl⟩
  | succ n ih =>
    intro hk
    obtain ⟨h1, h2⟩ := ih (fun k a b => hk k a (by omega))
    have hf := hk (m + n) (by omega) (by omega)
    refine ⟨?_, ?_⟩
    · show paS f z ((m + n) + 1) = none
      rw [paS, h1, hf]; simp
    · show cntTo f ((m + n) + 1) = _
      rw [cntTo, h2, hf]; rfl
theorem pa_in {P : Nat → Nat} {z lf : Int32} {i : Nat} (h : paS (pcF P) z (16 * i) = none) (hl : lf = z - nI (cntTo (pcF P) (16 * i))) (hi : i < 16) : paS (pcF P) z (16 * i + (i + 1)) = none ∧ lf = z - nI (cntTo (pcF P) (16 * i + (i + 1))) := by
  obtain ⟨h1, h2⟩ := pa_skip h (i + 1) (fun k a b => by
    obtain ⟨j, rfl⟩ : ∃ j, k = 16 * i + j := ⟨k - 16 * i, by omega⟩
    rw [pc_at (by omega), decide_eq_false (by omega)]; rfl)
  exact ⟨h1, by rw [h2]; exact hl⟩
abbrev rm_X14_pairAt : Room := { frames := 0, cells := 0, slots := 0, locals := 0 }
set_option maxHeartbeats 4000000 in
theorem cx_X14_pairAt (l : Launch) (w : Wd) (tb : Nat) (d : Nat) (rl : Nat) (al : Nat) (oc : Nat) (vs : Nat) (ak : Nat) (dc : Nat) (pt : Nat) (x0 : Nat) (cm : Nat) (pr : Nat → Nat) (PF : Nat → Nat → Nat) (q : Nat) (z : Int32) (hq : q < cm) (hz0 : ¬ z < 0) (hcm : cm ≤ 8) (hpf : ∀ c v, PF c v < 65536) : Ctr (GX w) l yX14_pairAt cX14_pairAt 7 (some .int) rm_X14_pairAt [.ref tb, .int (nI q), .int z] (fun H => va_at w.D clA (tb, .inr (16, [.ref d, .int (nI rl), .int (nI al), .ref oc, .ref vs, .ref ak, .ref dc, .ref pt, .ref x0])) H ∧ PTP w pt cm pr PF H) (fun _ vR _ => vR = some (.int ((paF (PF q) z).elim (-1) nI))) (fun _ => False) := by
  refine Ctr.mk (by decide +kernel) (Nat.le_of_ble_eq_true rfl) ?_
  intro p e s m a below meth c Q ls S B hin hG hP hl
  have S : CallFix p m c cX14_pairAt 7 s a lw_all RX14 := S
  have hl : lv_has ls 7 [(0, .ref tb), (1, .int (nI q)), (2, .int z)] := hl
  have hK := hG.kn
  obtain ⟨h_tb, h_pp⟩ := hP
  obtain ⟨A, hAe⟩ : ∃ A : Nat → Prop, A = (fun _ => False) := ⟨_, rfl⟩
  rw [← hAe] at B
  have hS : Sx A s s.heap [] := Sx.rf
  generalize ([] : List Loc) = locs at hS ⊢
  have hAn : ∀ q, ¬ A q := fun q h => by rw [hAe] at h; exact h
  have hA0 : ∀ q, A q → w.b0 ≤ q := fun q h => (hAn q h).elim
  have hSl := hS.le
  have h_pt := h_pp.1
  have hrow := h_pp.2
  refine lv_iload_n S.1 S.2.1 dX14_pairAt_0 rfl (lv_at hl 2 rfl) ?_
  refine lv_istore_n (lv' := [(3, .int z), (0, .ref tb), (1, .int (nI q)), (2, .int z)]) S.1 S.2.1 dX14_pairAt_1 rfl hl (by decide) rfl (fun ls hl => ?_)
  refine lv_iconst (v := (nI 0)) S.1 S.2.1 dX14_pairAt_2 (by decide) ?_
  refine lv_istore (lv' := [(4, .int (nI 0)), (3, .int z), (0, .ref tb), (1, .int (nI q)), (2, .int z)]) S.1 S.2.1 dX14_pairAt_3 hl (by decide) rfl (fun ls hl => ?_)
  have loop5 : ∀ (n_1 : Nat) (i : Nat) (lf : Int32), 16 - i < n_1 → ∀ (hi : i ≤ 16) (hlf : lf = z - nI (cntTo (pcF (PF q)) (16 * i))) (hno : paS (pcF (PF q)) z (16 * i) = none) (H : Heap) (locs : List Loc) (_ : Sx A s H locs) (ls : Array Slot), lv_has ls 7 [(0, .ref tb), (1, .int (nI q)), (2, .int z), (3, .int lf), (4, .int (nI i))] → W p l e rm_X14_pairAt s m a below meth c H locs 0 0 Q (F0 m 5 ls []) := by
    intro n_1
    induction n_1 with
    | zero => intro i lf hz; exact absurd hz (Nat.not_lt_zero _)
    | succ n_1 ih5 =>
      intro i lf hm5 hi hlf hno H locs  hS ls hl
      have hSl := hS.le
      refine lv_iload S.1 S.2.1 dX14_pairAt_5 (lv_at hl 4 rfl) ?_
      refine lv_bipush (v := (nI 16)) S.1 S.2.1 dX14_pairAt_7 (by decide) ?_
      refine n_icmp_ge (tgt := 93) S dX14_pairAt_9 (by decide) (by first | omega | exact Nat.lt_trans (hpf _ _) (by decide) | exact Nat.lt_of_le_of_lt Nat.and_le_right (by omega) | exact Nat.lt_of_le_of_lt Nat.and_le_left (by omega)) (by decide) (fun h_2 => ?_) (fun h_2 => ?_)
      · skip
        refine lv_iconst (v := (-1)) S.1 S.2.1 dX14_pairAt_93 (by decide) ?_
        have er : ((-1)) = ((paF (PF q) z).elim (-1) nI) := by 
          have hpa : paF (PF q) z = none := pa_none hno (Or.inl (by omega))
          rw [hpa]; rfl
        exact r_iret S B hS dX14_pairAt_94 rfl (Nat.le_of_ble_eq_true rfl) (Nat.le_of_ble_eq_true rfl) (congrArg (fun z : Int32 => some (Value.int z)) er)
      · skip
        refine lv_iload S.1 S.2.1 dX14_pairAt_12 (lv_at hl 4 rfl) ?_
        refine lv_iconst (v := (nI 1)) S.1 S.2.1 dX14_pairAt_14 (by decide) ?_
        refine n_iadd S dX14_pairAt_15 ?_
        refine lv_istore (lv' := [(5, .int (nI (i + 1))), (0, .ref tb), (1, .int (nI q)), (2, .int z), (3, .int lf), (4, .int (nI i))]) S.1 S.2.1 dX14_pairAt_16 hl (by decide) rfl (fun ls hl => ?_)
        have loop18 : ∀ (n_3 : Nat) (j : Nat) (lg : Int32), 16 - j < n_3 → ∀ (hij : i < j) (hj : j ≤ 16) (hlf2 : lg = z - nI (cntTo (pcF (PF q)) (16 * i + j))) (hno2 : paS (pcF (PF q)) z (16 * i + j) = none) (H : Heap) (locs : List Loc) (_ : Sx A s H locs) (ls : Array Slot), lv_has ls 7 [(0, .ref tb), (1, .int (nI q)), (2, .int z), (3, .int lg), (4, .int (nI i)), (5, .int (nI j))] → W p l e rm_X14_pairAt s m a below meth c H locs 0 0 Q (F0 m 18 ls []) := by
          intro n_3
          induction n_3 with
          | zero => intro j lg hz; exact absurd hz (Nat.not_lt_zero _)
          | succ n_3 ih18 =>
            intro j lg hm18 hij hj hlf2 hno2 H locs  hS ls hl
            have hSl := hS.le
            refine lv_iload S.1 S.2.1 dX14_pairAt_18 (lv_at hl 5 rfl) ?_
            refine lv_bipush (v := (nI 16)) S.1 S.2.1 dX14_pairAt_20 (by decide) ?_
            refine n_icmp_ge (tgt := 87) S dX14_pairAt_22 (by decide) (by first | omega | exact Nat.lt_trans (hpf _ _) (by decide) | exact Nat.lt_of_le_of_lt Nat.and_le_right (by omega) | exact Nat.lt_of_le_of_lt Nat.and_le_left (by omega)) (by decide) (fun h_4 => ?_) (fun h_4 => ?_)
            · skip
              refine lv_iinc (v := (nI (i + 1))) (lv' := [(4, .int (nI (i + 1))), (0, .ref tb), (1, .int (nI q)), (2, .int z), (3, .int lg), (5, .int (nI j))]) S.1 S.2.1 dX14_pairAt_87 hl (k := 4) rfl (nI_add _ _) (by decide) rfl (fun ls hl => ?_)
              refine lv_goto (tgt := 5) S.1 S.2.1 dX14_pairAt_90 (by decide) ?_
              have e16 : j = 16 := by omega
              subst e16
              exact ih5 (i + 1) lg (by omega) (by omega) hlf2 hno2 _ _  hS _ (lv_sub hl [1, 2, 3, 4, 0] rfl)
            · skip
              refine lv_aload_n S.1 S.2.1 dX14_pairAt_25 rfl (lv_at hl 0 rfl) ?_
              refine x_get S cc_X14 (va_at.old h_tb hS (hAn _)) hK (v := .ref pt) 7 (by decide) q1550 (fun _ hx => hx) rfl dX14_pairAt_26 ?_
              refine lv_iload_n S.1 S.2.1 dX14_pairAt_29 rfl (lv_at hl 1 rfl) ?_
              have h_row : va_at w.D clA (pr q, .inl (w.dA 0, 16, .inl (fun v => nI (PF q v)))) s.heap := hrow q hq
              refine x_aald S 6 (ty := .array .int) (va_at.old h_pt hS (hAn _)) hK rfl rfl (i := q) (by show _ < (_ : Nat); first | assumption | omega) (by first | decide | omega) (v := .ref (pr q)) rfl dX14_pairAt_30 ?_
              refine lv_iload S.1 S.2.1 dX14_pairAt_31 (lv_at hl 4 rfl) ?_
              refine x_iald S (i := i) (f := PF q) (va_at.old h_row hS (hAn _)) hK (by show _ < (_ : Nat); first | assumption | omega) (by first | decide | omega) dX14_pairAt_33 ?_
              refine lv_iload S.1 S.2.1 dX14_pairAt_34 (lv_at hl 5 rfl) ?_
              refine n_ishr S dX14_pairAt_36 (Nat.lt_trans (hpf _ _) (by decide)) (by omega) ?_
              refine lv_iconst (v := (nI 1)) S.1 S.2.1 dX14_pairAt_37 (by decide) ?_
              refine n_iand S dX14_pairAt_38 ?_
              refine lv_iconst (v := (nI 1)) S.1 S.2.1 dX14_pairAt_39 (by decide) ?_
              suffices j_6 : W p l e rm_X14_pairAt s m a below meth c H locs 0 0 Q (F0 m 48 ls [.int (nI (Bool.toNat (decide (((((PF q) i) >>> j) &&& 1) = 1))))]) by
                refine n_icmp_ne (tgt := 47) S dX14_pairAt_40 (by decide) (by first | omega | exact Nat.lt_trans (hpf _ _) (by decide) | exact Nat.lt_of_le_of_lt Nat.and_le_right (by omega) | exact Nat.lt_of_le_of_lt Nat.and_le_left (by omega)) (by decide) (fun h_5 => ?_) (fun h_5 => ?_)
                · skip
                  refine lv_iconst (v := (nI 0)) S.1 S.2.1 dX14_pairAt_47 (by decide) ?_
                  refine W.eq ?_ j_6
                  first | (simp only [h_5, eq_self, decide_true, decide_false, if_true, if_false, reduceIte, Bool.not_true, Bool.not_false, Bool.true_and, Bool.false_and, Bool.and_true, Bool.and_false, Bool.true_or, Bool.false_or, Bool.or_true, Bool.or_false, Bool.toNat_true, Bool.toNat_false, Bool.false_eq_true, Bool.true_eq_false, not_true_eq_false, not_false_eq_true]; done) | (simp [h_5]; done)
                · skip
                  refine lv_iconst (v := (nI 1)) S.1 S.2.1 dX14_pairAt_43 (by decide) ?_
                  refine lv_goto (tgt := 48) S.1 S.2.1 dX14_pairAt_44 (by decide) ?_
                  refine W.eq ?_ j_6
                  first | (simp only [h_5, eq_self, decide_true, decide_false, if_true, if_false, reduceIte, Bool.not_true, Bool.not_false, Bool.true_and, Bool.false_and, Bool.and_true, Bool.and_false, Bool.true_or, Bool.false_or, Bool.or_true, Bool.or_false, Bool.toNat_true, Bool.toNat_false, Bool.false_eq_true, Bool.true_eq_false, not_true_eq_false, not_false_eq_true]; done) | (simp [h_5]; done)
              refine lv_istore (lv' := [(6, .int (nI (Bool.toNat (decide (((((PF q) i) >>> j) &&& 1) = 1))))), (0, .ref tb), (1, .int (nI q)), (2, .int z), (3, .int lg), (4, .int (nI i)), (5, .int (nI j))]) S.1 S.2.1 dX14_pairAt_48 hl (by decide) rfl (fun ls hl => ?_)
              refine lv_iload S.1 S.2.1 dX14_pairAt_50 (lv_at hl 0 rfl) ?_
              refine b_if_eq (tgt := 68) S dX14_pairAt_52 (by decide) (fun h_7 => ?_) (fun h_7 => ?_)
              · skip
                refine lv_iload_n S.1 S.2.1 dX14_pairAt_68 rfl (lv_at hl 4 rfl) ?_
                refine lv_iload S.1 S.2.1 dX14_pairAt_69 (lv_at hl 0 rfl) ?_
                suffices j_9 : W p l e rm_X14_pairAt s m a below meth c H locs 0 0 Q (F0 m 79 ls [.int (nI (Bool.toNat (decide (((((PF q) i) >>> j) &&& 1) = 1)))), .int lg]) by
                  refine b_if_eq (tgt := 78) S dX14_pairAt_71 (by decide) (fun h_8 => ?_) (fun h_8 => ?_)
                  · skip
                    refine lv_iconst (v := (nI 0)) S.1 S.2.1 dX14_pairAt_78 (by decide) ?_
                    refine W.eq ?_ j_9
                    first | (simp only [h_8, eq_self, decide_true, decide_false, if_true, if_false, reduceIte, Bool.not_true, Bool.not_false, Bool.true_and, Bool.false_and, Bool.and_true, Bool.and_false, Bool.true_or, Bool.false_or, Bool.or_true, Bool.or_false, Bool.toNat_true, Bool.toNat_false, Bool.false_eq_true, Bool.true_eq_false, not_true_eq_false, not_false_eq_true]; done) | (simp [h_8]; done)
                  · skip
                    refine lv_iconst (v := (nI 1)) S.1 S.2.1 dX14_pairAt_74 (by decide) ?_
                    refine lv_goto (tgt := 79) S.1 S.2.1 dX14_pairAt_75 (by decide) ?_
                    refine W.eq ?_ j_9
                    first | (simp only [h_8, eq_self, decide_true, decide_false, if_true, if_false, reduceIte, Bool.not_true, Bool.not_false, Bool.true_and, Bool.false_and, Bool.and_true, Bool.and_false, Bool.true_or, Bool.false_or, Bool.or_true, Bool.or_false, Bool.toNat_true, Bool.toNat_false, Bool.false_eq_true, Bool.true_eq_false, not_true_eq_false, not_false_eq_true]; done) | (simp [h_8]; done)
                refine lv_isub S.1 S.2.1 dX14_pairAt_79 ?_
                refine lv_istore_n (lv' := [(3, .int (lg - (nI (Bool.toNat (decide (((((PF q) i) >>> j) &&& 1) = 1)))))), (6, .int (nI (Bool.toNat (decide (((((PF q) i) >>> j) &&& 1) = 1))))), (0, .ref tb), (1, .int (nI q)), (2, .int z), (4, .int (nI i)), (5, .int (nI j))]) S.1 S.2.1 dX14_pairAt_80 rfl hl (by decide) rfl (fun ls hl => ?_)
                refine lv_iinc (v := (nI (j + 1))) (lv' := [(5, .int (nI (j + 1))), (3, .int (lg - (nI (Bool.toNat (decide (((((PF q) i) >>> j) &&& 1) = 1)))))), (6, .int (nI (Bool.toNat (decide (((((PF q) i) >>> j) &&& 1) = 1))))), (0, .ref tb), (1, .int (nI q)), (2, .int z), (4, .int (nI i))]) S.1 S.2.1 dX14_pairAt_81 hl (k := 6) rfl (nI_add _ _) (by decide) rfl (fun ls hl => ?_)
                refine lv_goto (tgt := 18) S.1 S.2.1 dX14_pairAt_84 (by decide) ?_
                exact ih18 (j + 1) (lg - (nI (Bool.toNat (decide (((((PF q) i) >>> j) &&& 1) = 1))))) (by omega) (by omega) (by omega) (pa_lx (n := 16 * i + j) hlf2 (by rw [pc_at (by omega), decide_eq_true hij, Bool.true_and, ← tb_eq])) (pa_no (i := 16 * i + j) hno2 hlf2 (by first | exact Or.inr (by assumption) | exact Or.inl (by rw [pc_at (by omega), decide_eq_true hij, Bool.true_and, ← tb_eq]; assumption))) _ _  hS _ (lv_sub hl [3, 4, 5, 1, 6, 0] rfl)
              · skip
                refine lv_iload_n S.1 S.2.1 dX14_pairAt_55 rfl (lv_at hl 4 rfl) ?_
                refine lv_if_ne (tgt := 68) S.1 S.2.1 dX14_pairAt_56 (by decide) (fun h_10 => ?_) (fun h_10 => ?_)
                · skip
                  refine lv_iload_n S.1 S.2.1 dX14_pairAt_68 rfl (lv_at hl 4 rfl) ?_
                  refine lv_iload S.1 S.2.1 dX14_pairAt_69 (lv_at hl 0 rfl) ?_
                  suffices j_12 : W p l e rm_X14_pairAt s m a below meth c H locs 0 0 Q (F0 m 79 ls [.int (nI (Bool.toNat (decide (((((PF q) i) >>> j) &&& 1) = 1)))), .int lg]) by
                    refine b_if_eq (tgt := 78) S dX14_pairAt_71 (by decide) (fun h_11 => ?_) (fun h_11 => ?_)
                    · skip
                      refine lv_iconst (v := (nI 0)) S.1 S.2.1 dX14_pairAt_78 (by decide) ?_
                      refine W.eq ?_ j_12
                      first | (simp only [h_11, eq_self, decide_true, decide_false, if_true, if_false, reduceIte, Bool.not_true, Bool.not_false, Bool.true_and, Bool.false_and, Bool.and_true, Bool.and_false, Bool.true_or, Bool.false_or, Bool.or_true, Bool.or_false, Bool.toNat_true, Bool.toNat_false, Bool.false_eq_true, Bool.true_eq_false, not_true_eq_false, not_false_eq_true]; done) | (simp [h_11]; done)
                    · skip
                      refine lv_iconst (v := (nI 1)) S.1 S.2.1 dX14_pairAt_74 (by decide) ?_
                      refine lv_goto (tgt := 79) S.1 S.2.1 dX14_pairAt_75 (by decide) ?_
                      refine W.eq ?_ j_12
                      first | (simp only [h_11, eq_self, decide_true, decide_false, if_true, if_false, reduceIte, Bool.not_true, Bool.not_false, Bool.true_and, Bool.false_and, Bool.and_true, Bool.and_false, Bool.true_or, Bool.false_or, Bool.or_true, Bool.or_false, Bool.toNat_true, Bool.toNat_false, Bool.false_eq_true, Bool.true_eq_false, not_true_eq_false, not_false_eq_true]; done) | (simp [h_11]; done)
                  refine lv_isub S.1 S.2.1 dX14_pairAt_79 ?_
                  refine lv_istore_n (lv' := [(3, .int (lg - (nI (Bool.toNat (decide (((((PF q) i) >>> j) &&& 1) = 1)))))), (6, .int (nI (Bool.toNat (decide (((((PF q) i) >>> j) &&& 1) = 1))))), (0, .ref tb), (1, .int (nI q)), (2, .int z), (4, .int (nI i)), (5, .int (nI j))]) S.1 S.2.1 dX14_pairAt_80 rfl hl (by decide) rfl (fun ls hl => ?_)
                  refine lv_iinc (v := (nI (j + 1))) (lv' := [(5, .int (nI (j + 1))), (3, .int (lg - (nI (Bool.toNat (decide (((((PF q) i) >>> j) &&& 1) = 1)))))), (6, .int (nI (Bool.toNat (decide (((((PF q) i) >>> j) &&& 1) = 1))))), (0, .ref tb), (1, .int (nI q)), (2, .int z), (4, .int (nI i))]) S.1 S.2.1 dX14_pairAt_81 hl (k := 6) rfl (nI_add _ _) (by decide) rfl (fun ls hl => ?_)
                  refine lv_goto (tgt := 18) S.1 S.2.1 dX14_pairAt_84 (by decide) ?_
                  exact ih18 (j + 1) (lg - (nI (Bool.toNat (decide (((((PF q) i) >>> j) &&& 1) = 1))))) (by omega) (by omega) (by omega) (pa_lx (n := 16 * i + j) hlf2 (by rw [pc_at (by omega), decide_eq_true hij, Bool.true_and, ← tb_eq])) (pa_no (i := 16 * i + j) hno2 hlf2 (by first | exact Or.inr (by assumption) | exact Or.inl (by rw [pc_at (by omega), decide_eq_true hij, Bool.true_and, ← tb_eq]; assumption))) _ _  hS _ (lv_sub hl [3, 4, 5, 1, 6, 0] rfl)
                · skip
                  refine lv_bipush (v := (nI 16)) S.1 S.2.1 dX14_pairAt_59 (by decide) ?_
                  refine lv_iload S.1 S.2.1 dX14_pairAt_61 (lv_at hl 5 rfl) ?_
                  refine n_imul S dX14_pairAt_63 ?_
                  refine lv_iload S.1 S.2.1 dX14_pairAt_64 (lv_at hl 6 rfl) ?_
                  refine n_iadd S dX14_pairAt_66 ?_
                  have er : ((nI ((16 * i) + j))) = ((paF (PF q) z).elim (-1) nI) := by 
                    have hpa : paF (PF q) z = some (16 * i + j) := pa_yes hno2 hlf2 (by rw [pc_at (by omega), decide_eq_true hij, Bool.true_and, ← tb_eq]; assumption) (by assumption) (by omega) hz0
                    rw [hpa]; rfl
                  exact r_iret S B hS dX14_pairAt_67 rfl (Nat.le_of_ble_eq_true rfl) (Nat.le_of_ble_eq_true rfl) (congrArg (fun z : Int32 => some (Value.int z)) er)
        have hin := pa_in hno hlf (by omega)
        exact loop18 _ (i + 1) lf (Nat.lt_succ_self _) (by omega) (by omega) hin.2 hin.1 _ _  hS _ (lv_sub hl [1, 2, 3, 4, 5, 0] rfl)
  exact loop5 _ 0 z (Nat.lt_succ_self _) (Nat.zero_le _) (by show z = z - 0; grind) rfl _ _  hS _ (lv_sub hl [2, 3, 4, 1, 0] rfl)
