set_option maxRecDepth 100000
/-! tables -/
theorem b_two {x i j : Nat} : decide ((x >>> i &&& x >>> j) &&& 1 = 1) = (x.testBit i && x.testBit j) := by
  have e : (x >>> i &&& x >>> j) &&& 1 = ((x >>> i) &&& 1) &&& ((x >>> j) &&& 1) := by
    apply Nat.eq_of_testBit_eq; intro k
    simp only [Nat.testBit_and]
    cases (x >>> i).testBit k <;> cases (x >>> j).testBit k <;> cases (Nat.testBit 1 k) <;> rfl
  rw [e]
  have h1 := tb_eq x i
  have h2 := tb_eq x j
  have a1 : (x >>> i) &&& 1 = 0 ∨ (x >>> i) &&& 1 = 1 := by have : (x >>> i) &&& 1 ≤ 1 := Nat.and_le_right; omega
  have a2 : (x >>> j) &&& 1 = 0 ∨ (x >>> j) &&& 1 = 1 := by have : (x >>> j) &&& 1 ≤ 1 := Nat.and_le_right; omega
  rcases a1 with a1 | a1 <;> rcases a2 with a2 | a2 <;> rw [a1] at h1 <;> rw [a2] at h2 <;> rw [a1, a2, ← h1, ← h2] <;> decide
theorem un_bit {x y c : Nat} : (x ^^^ y) &&& 1 <<< c = 0 ↔ x.testBit c = y.testBit c := by
  rw [and_bit, Nat.testBit_xor]
  cases x.testBit c <;> cases y.testBit c <;> decide
theorem pr_sw {u c : Nat} (h : u.testBit c = true) : u = 1 <<< c ↔ nAnd u (1 <<< c) = 0 := by
  constructor
  · intro e
    rw [← e]
    apply Nat.eq_of_testBit_eq; intro i
    rw [nAnd_test, Nat.zero_testBit]; cases u.testBit i <;> rfl
  · intro e
    apply Nat.eq_of_testBit_eq; intro i
    have a := congrArg (fun z => Nat.testBit z i) e
    simp only [nAnd_test, Nat.zero_testBit] at a
    rw [Nat.one_shiftLeft, Nat.testBit_two_pow] at a ⊢
    by_cases hi : c = i
    · subst hi; rw [h]; simp
    · rw [decide_eq_false hi] at a ⊢; simpa using a
theorem pr_as {u c p q : Nat} (h : u.testBit c = true) : (¬ (p &&& q) &&& 1 <<< c = 0 ∧ u &&& (p &&& q) = 1 <<< c) ↔ (p.testBit c = true ∧ q.testBit c = true ∧ (nAnd u (1 <<< c) &&& p) &&& q = 0) := by
  rw [and_bit, Nat.testBit_and]
  constructor
  · rintro ⟨h1, h2⟩
    have e1 : p.testBit c = true := by cases hp : p.testBit c; simp [hp] at h1; rfl
    have e2 : q.testBit c = true := by cases hp : q.testBit c; simp [hp] at h1; rfl
    refine ⟨e1, e2, ?_⟩
    apply Nat.eq_of_testBit_eq; intro i
    have a := congrArg (fun z => Nat.testBit z i) h2
    simp only [Nat.testBit_and, Nat.one_shiftLeft, Nat.testBit_two_pow] at a
    simp only [Nat.testBit_and, nAnd_test, Nat.zero_testBit, Nat.one_shiftLeft, Nat.testBit_two_pow]
    by_cases hi : c = i
    · subst hi; simp
    · rw [decide_eq_false hi] at a ⊢
      cases hu : u.testBit i <;> cases hp : p.testBit i <;> cases hq : q.testBit i <;> simp_all
  · rintro ⟨e1, e2, e3⟩
    refine ⟨by simp [e1, e2], ?_⟩
    apply Nat.eq_of_testBit_eq; intro i
    have a := congrArg (fun z => Nat.testBit z i) e3
    simp only [Nat.testBit_and, nAnd_test, Nat.zero_testBit, Nat.one_shiftLeft, Nat.testBit_two_pow] at a
    simp only [Nat.testBit_and, Nat.one_shiftLeft, Nat.testBit_two_pow]
    by_cases hi : c = i
    · subst hi; simp [h, e1, e2]
    · rw [decide_eq_false hi] at a ⊢
      cases hu : u.testBit i <;> cases hp : p.testBit i <;> cases hq : q.testBit i <;> simp_all
theorem pr_ms {c p q : Nat} : ¬ (p &&& q) &&& 1 <<< c = 0 ↔ (p.testBit c && q.testBit c) = true := by
  rw [and_bit, Nat.testBit_and]
  cases p.testBit c && q.testBit c <;> simp
/-- what a table says of two vectors -/
def prB (al rl : Nat) (fO : Nat → Bool) (fV fA fD : Nat → Nat) (c v w : Nat) : Bool := al.testBit v && (al.testBit w && (!decide (fO v = fO w) && (!decide ((fV v).testBit c = (fV w).testBit c) && areF fV fA fD rl c v w)))
abbrev rm_X14_isPair : Room := { frames := 0, cells := 0, slots := 0, locals := 0 }
set_option maxHeartbeats 4000000 in
theorem cx_X14_isPair (l : Launch) (w : Wd) (tb : Nat) (d : Nat) (rl : Nat) (al : Nat) (oc : Nat) (vs : Nat) (ak : Nat) (dc : Nat) (pt : Nat) (x0 : Nat) (fO : Nat → Bool) (fV : Nat → Nat) (fA : Nat → Nat) (fD : Nat → Nat) (c1 : Nat) (b1 : Nat) (b2 : Nat) (hcc : c1 < 8) (h1v : b1 < 16) (h2v : b2 < 16) (hal : al < 65536) (hrl : rl < 3) (hfv : ∀ j, fV j < 256) (hfa : ∀ j, fA j < 256) (hfd : ∀ j, fD j < 256) : Ctr (GX w) l yX14_isPair cX14_isPair 8 (some .boolean) rm_X14_isPair [.ref tb, .int (nI c1), .int (nI b1), .int (nI b2)] (fun H => va_at w.D clA (tb, .inr (16, [.ref d, .int (nI rl), .int (nI al), .ref oc, .ref vs, .ref ak, .ref dc, .ref pt, .ref x0])) H ∧ va_at w.D clA (oc, .inl (w.dA 1, 16, .inl (fun j => nI (Bool.toNat (fO j))))) H ∧ va_at w.D clA (vs, .inl (w.dA 0, 16, .inl (fun j => nI (fV j)))) H ∧ va_at w.D clA (ak, .inl (w.dA 0, 16, .inl (fun j => nI (fA j)))) H ∧ va_at w.D clA (dc, .inl (w.dA 0, 16, .inl (fun j => nI (fD j)))) H) (fun _ vR _ => vR = some (.int (nI (Bool.toNat (prB al rl fO fV fA fD c1 b1 b2))))) (fun _ => False) := by
  refine Ctr.mk (by decide +kernel) (Nat.le_of_ble_eq_true rfl) ?_
  intro p e s m a below meth c Q ls S B hin hG hP hl
  have S : CallFix p m c cX14_isPair 8 s a lw_all RX14 := S
  have hl : lv_has ls 8 [(0, .ref tb), (1, .int (nI c1)), (2, .int (nI b1)), (3, .int (nI b2))] := hl
  have hK := hG.kn
  obtain ⟨h_tb, h_oc, h_vs, h_ak, h_dc⟩ := hP
  obtain ⟨A, hAe⟩ : ∃ A : Nat → Prop, A = (fun _ => False) := ⟨_, rfl⟩
  rw [← hAe] at B
  have hS : Sx A s s.heap [] := Sx.rf
  generalize ([] : List Loc) = locs at hS ⊢
  have hAn : ∀ q, ¬ A q := fun q h => by rw [hAe] at h; exact h
  have hA0 : ∀ q, A q → w.b0 ≤ q := fun q h => (hAn q h).elim
  have hSl := hS.le
  have hpc : 1 <<< c1 < 256 := by rw [Nat.one_shiftLeft]; exact Nat.pow_lt_pow_right (by decide) hcc
  have hvv := hfv b1
  have hvw := hfv b2
  have hxv : fV b1 ^^^ fV b2 < 2 ^ 8 := Nat.xor_lt_two_pow hvv hvw
  refine lv_iconst (v := (nI 1)) S.1 S.2.1 dX14_isPair_0 (by decide) ?_
  refine lv_iload_n S.1 S.2.1 dX14_isPair_1 rfl (lv_at hl 1 rfl) ?_
  refine n_ishl S dX14_isPair_2 (by omega) ?_
  refine lv_istore (lv' := [(4, .int (nI (1 <<< c1))), (0, .ref tb), (1, .int (nI c1)), (2, .int (nI b1)), (3, .int (nI b2))]) S.1 S.2.1 dX14_isPair_3 hl (by decide) rfl (fun ls hl => ?_)
  refine lv_aload_n S.1 S.2.1 dX14_isPair_5 rfl (lv_at hl 1 rfl) ?_
  refine x_get S cc_X14 h_tb hK (v := .ref vs) 4 (by decide) q1547 (fun _ hx => hx) rfl dX14_isPair_6 ?_
  refine lv_iload_n S.1 S.2.1 dX14_isPair_9 rfl (lv_at hl 3 rfl) ?_
  refine x_iald S (i := b1) (f := fV) h_vs hK (by show _ < (_ : Nat); first | assumption | omega) (by first | decide | omega) dX14_isPair_10 ?_
  refine lv_aload_n S.1 S.2.1 dX14_isPair_11 rfl (lv_at hl 1 rfl) ?_
  refine x_get S cc_X14 h_tb hK (v := .ref vs) 4 (by decide) q1547 (fun _ hx => hx) rfl dX14_isPair_12 ?_
  refine lv_iload_n S.1 S.2.1 dX14_isPair_15 rfl (lv_at hl 4 rfl) ?_
  refine x_iald S (i := b2) (f := fV) h_vs hK (by show _ < (_ : Nat); first | assumption | omega) (by first | decide | omega) dX14_isPair_16 ?_
  refine n_ixor S dX14_isPair_17 ?_
  refine lv_istore (lv' := [(5, .int (nI ((fV b1) ^^^ (fV b2)))), (4, .int (nI (1 <<< c1))), (0, .ref tb), (1, .int (nI c1)), (2, .int (nI b1)), (3, .int (nI b2))]) S.1 S.2.1 dX14_isPair_18 hl (by decide) rfl (fun ls hl => ?_)
  refine lv_aload_n S.1 S.2.1 dX14_isPair_20 rfl (lv_at hl 2 rfl) ?_
  refine x_get S cc_X14 h_tb hK (v := .int (nI al)) 2 (by decide) q1544 (fun _ hx => hx) rfl dX14_isPair_21 ?_
  refine lv_iload_n S.1 S.2.1 dX14_isPair_24 rfl (lv_at hl 4 rfl) ?_
  refine n_ishr S dX14_isPair_25 (by omega) (by omega) ?_
  refine lv_aload_n S.1 S.2.1 dX14_isPair_26 rfl (lv_at hl 2 rfl) ?_
  refine x_get S cc_X14 h_tb hK (v := .int (nI al)) 2 (by decide) q1544 (fun _ hx => hx) rfl dX14_isPair_27 ?_
  refine lv_iload_n S.1 S.2.1 dX14_isPair_30 rfl (lv_at hl 5 rfl) ?_
  refine n_ishr S dX14_isPair_31 (by omega) (by omega) ?_
  refine n_iand S dX14_isPair_32 ?_
  refine lv_iconst (v := (nI 1)) S.1 S.2.1 dX14_isPair_33 (by decide) ?_
  refine n_iand S dX14_isPair_34 ?_
  refine lv_iconst (v := (nI 1)) S.1 S.2.1 dX14_isPair_35 (by decide) ?_
  suffices j_2 : W p l e rm_X14_isPair s m a below meth c s.heap locs 0 0 Q (F0 m 44 ls [.int (nI (Bool.toNat (decide ((((al >>> b1) &&& (al >>> b2)) &&& 1) = 1))))]) by
    refine n_icmp_ne (tgt := 43) S dX14_isPair_36 (by decide) (by first | omega | exact Nat.lt_of_le_of_lt Nat.and_le_right (by omega) | exact Nat.lt_of_le_of_lt Nat.and_le_right (Nat.lt_trans (hfa b2) (by decide)) | exact Nat.lt_of_le_of_lt Nat.and_le_right (Nat.lt_of_le_of_lt Nat.and_le_right (Nat.lt_trans (hfa b2) (by decide)))) (by decide) (fun h_1 => ?_) (fun h_1 => ?_)
    · skip
      refine lv_iconst (v := (nI 0)) S.1 S.2.1 dX14_isPair_43 (by decide) ?_
      refine W.eq ?_ j_2
      first | (simp only [h_1, eq_self, decide_true, decide_false, if_true, if_false, reduceIte, Bool.not_true, Bool.not_false, Bool.true_and, Bool.false_and, Bool.and_true, Bool.and_false, Bool.true_or, Bool.false_or, Bool.or_true, Bool.or_false, Bool.toNat_true, Bool.toNat_false, Bool.false_eq_true, Bool.true_eq_false, not_true_eq_false, not_false_eq_true]; done) | (simp [h_1]; done)
    · skip
      refine lv_iconst (v := (nI 1)) S.1 S.2.1 dX14_isPair_39 (by decide) ?_
      refine lv_goto (tgt := 44) S.1 S.2.1 dX14_isPair_40 (by decide) ?_
      refine W.eq ?_ j_2
      first | (simp only [h_1, eq_self, decide_true, decide_false, if_true, if_false, reduceIte, Bool.not_true, Bool.not_false, Bool.true_and, Bool.false_and, Bool.and_true, Bool.and_false, Bool.true_or, Bool.false_or, Bool.or_true, Bool.or_false, Bool.toNat_true, Bool.toNat_false, Bool.false_eq_true, Bool.true_eq_false, not_true_eq_false, not_false_eq_true]; done) | (simp [h_1]; done)
  refine lv_istore (lv' := [(6, .int (nI (Bool.toNat (decide ((((al >>> b1) &&& (al >>> b2)) &&& 1) = 1))))), (5, .int (nI ((fV b1) ^^^ (fV b2)))), (4, .int (nI (1 <<< c1))), (0, .ref tb), (1, .int (nI c1)), (2, .int (nI b1)), (3, .int (nI b2))]) S.1 S.2.1 dX14_isPair_44 hl (by decide) rfl (fun ls hl => ?_)
  refine lv_iload S.1 S.2.1 dX14_isPair_46 (lv_at hl 0 rfl) ?_
  refine b_if_eq (tgt := 74) S dX14_isPair_48 (by decide) (fun h_3 => ?_) (fun h_3 => ?_)
  · skip
    refine lv_iconst (v := (nI 0)) S.1 S.2.1 dX14_isPair_74 (by decide) ?_
    have er : (false) = (prB al rl fO fV fA fD c1 b1 b2) := by 
      have q1 : (al.testBit b1 && al.testBit b2) = false := by rw [← b_two]; exact h_3
      unfold prB; rw [← Bool.and_assoc, q1]; rfl
    exact r_iret S B hS dX14_isPair_75 (by decide) (Nat.le_of_ble_eq_true rfl) (Nat.le_of_ble_eq_true rfl) (congrArg (fun z : Bool => some (Value.int (nI z.toNat))) er)
  · skip
    refine lv_aload_n S.1 S.2.1 dX14_isPair_51 rfl (lv_at hl 3 rfl) ?_
    refine x_get S cc_X14 h_tb hK (v := .ref oc) 3 (by decide) q1546 (fun _ hx => hx) rfl dX14_isPair_52 ?_
    refine lv_iload_n S.1 S.2.1 dX14_isPair_55 rfl (lv_at hl 5 rfl) ?_
    refine x_zald S (i := b1) (f := fO) h_oc hK (by show _ < (_ : Nat); first | assumption | omega) (by first | decide | omega) dX14_isPair_56 ?_
    refine lv_aload_n S.1 S.2.1 dX14_isPair_57 rfl (lv_at hl 3 rfl) ?_
    refine x_get S cc_X14 h_tb hK (v := .ref oc) 3 (by decide) q1546 (fun _ hx => hx) rfl dX14_isPair_58 ?_
    refine lv_iload_n S.1 S.2.1 dX14_isPair_61 rfl (lv_at hl 6 rfl) ?_
    refine x_zald S (i := b2) (f := fO) h_oc hK (by show _ < (_ : Nat); first | assumption | omega) (by first | decide | omega) dX14_isPair_62 ?_
    refine b_icmp_eq (tgt := 74) S dX14_isPair_63 (by decide) (fun h_4 => ?_) (fun h_4 => ?_)
    · skip
      refine lv_iconst (v := (nI 0)) S.1 S.2.1 dX14_isPair_74 (by decide) ?_
      have er : (false) = (prB al rl fO fV fA fD c1 b1 b2) := by 
        have q1 : (al.testBit b1 && al.testBit b2) = true := by rw [← b_two]; exact h_3
        unfold prB; rw [← Bool.and_assoc, q1, decide_eq_true h_4]; rfl
      exact r_iret S B hS dX14_isPair_75 (by decide) (Nat.le_of_ble_eq_true rfl) (Nat.le_of_ble_eq_true rfl) (congrArg (fun z : Bool => some (Value.int (nI z.toNat))) er)
    · skip
      refine lv_iload S.1 S.2.1 dX14_isPair_66 (lv_at hl 1 rfl) ?_
      refine lv_iload S.1 S.2.1 dX14_isPair_68 (lv_at hl 2 rfl) ?_
      refine n_iand S dX14_isPair_70 ?_
      refine n_if_ne (tgt := 76) S dX14_isPair_71 (by decide) (by first | omega | exact Nat.lt_of_le_of_lt Nat.and_le_right (by omega) | exact Nat.lt_of_le_of_lt Nat.and_le_right (Nat.lt_trans (hfa b2) (by decide)) | exact Nat.lt_of_le_of_lt Nat.and_le_right (Nat.lt_of_le_of_lt Nat.and_le_right (Nat.lt_trans (hfa b2) (by decide)))) (fun h_5 => ?_) (fun h_5 => ?_)
      · skip
        refine lv_aload_n S.1 S.2.1 dX14_isPair_76 rfl (lv_at hl 3 rfl) ?_
        refine x_get S cc_X14 h_tb hK (v := .ref ak) 5 (by decide) q1548 (fun _ hx => hx) rfl dX14_isPair_77 ?_
        refine lv_iload_n S.1 S.2.1 dX14_isPair_80 rfl (lv_at hl 5 rfl) ?_
        refine x_iald S (i := b1) (f := fA) h_ak hK (by show _ < (_ : Nat); first | assumption | omega) (by first | decide | omega) dX14_isPair_81 ?_
        refine lv_aload_n S.1 S.2.1 dX14_isPair_82 rfl (lv_at hl 3 rfl) ?_
        refine x_get S cc_X14 h_tb hK (v := .ref ak) 5 (by decide) q1548 (fun _ hx => hx) rfl dX14_isPair_83 ?_
        refine lv_iload_n S.1 S.2.1 dX14_isPair_86 rfl (lv_at hl 6 rfl) ?_
        refine x_iald S (i := b2) (f := fA) h_ak hK (by show _ < (_ : Nat); first | assumption | omega) (by first | decide | omega) dX14_isPair_87 ?_
        refine n_iand S dX14_isPair_88 ?_
        refine lv_istore (lv' := [(7, .int (nI ((fA b1) &&& (fA b2)))), (6, .int (nI (Bool.toNat (decide ((((al >>> b1) &&& (al >>> b2)) &&& 1) = 1))))), (5, .int (nI ((fV b1) ^^^ (fV b2)))), (4, .int (nI (1 <<< c1))), (0, .ref tb), (1, .int (nI c1)), (2, .int (nI b1)), (3, .int (nI b2))]) S.1 S.2.1 dX14_isPair_89 hl (by decide) rfl (fun ls hl => ?_)
        refine lv_aload_n S.1 S.2.1 dX14_isPair_91 rfl (lv_at hl 4 rfl) ?_
        refine x_get S cc_X14 h_tb hK (v := .int (nI rl)) 1 (by decide) q1543 (fun _ hx => hx) rfl dX14_isPair_92 ?_
        rcases (by omega : rl = 0 ∨ rl = 1 ∨ rl = 2) with sw_6 | sw_6 | sw_6
        · skip
          refine lv_lookup (off := 25) (tgt := 120) S.1 S.2.1 dX14_isPair_95 (by decide) (by rw [sw_6]; decide) (by decide) ?_
          refine lv_iload S.1 S.2.1 dX14_isPair_120 (lv_at hl 2 rfl) ?_
          refine lv_iload S.1 S.2.1 dX14_isPair_122 (lv_at hl 3 rfl) ?_
          suffices j_8 : W p l e rm_X14_isPair s m a below meth c s.heap locs 0 0 Q (F0 m 185 ls [.int (nI (Bool.toNat (decide (((fV b1) ^^^ (fV b2)) = (1 <<< c1)))))]) by
            refine n_icmp_ne (tgt := 131) S dX14_isPair_124 (by decide) (by first | omega | exact Nat.lt_of_le_of_lt Nat.and_le_right (by omega) | exact Nat.lt_of_le_of_lt Nat.and_le_right (Nat.lt_trans (hfa b2) (by decide)) | exact Nat.lt_of_le_of_lt Nat.and_le_right (Nat.lt_of_le_of_lt Nat.and_le_right (Nat.lt_trans (hfa b2) (by decide)))) (by first | omega | exact Nat.lt_of_le_of_lt Nat.and_le_right (by omega) | exact Nat.lt_of_le_of_lt Nat.and_le_right (Nat.lt_trans (hfa b2) (by decide)) | exact Nat.lt_of_le_of_lt Nat.and_le_right (Nat.lt_of_le_of_lt Nat.and_le_right (Nat.lt_trans (hfa b2) (by decide)))) (fun h_7 => ?_) (fun h_7 => ?_)
            · skip
              refine lv_iconst (v := (nI 0)) S.1 S.2.1 dX14_isPair_131 (by decide) ?_
              refine lv_goto (tgt := 185) S.1 S.2.1 dX14_isPair_132 (by decide) ?_
              refine W.eq ?_ j_8
              first | (simp only [h_7, eq_self, decide_true, decide_false, if_true, if_false, reduceIte, Bool.not_true, Bool.not_false, Bool.true_and, Bool.false_and, Bool.and_true, Bool.and_false, Bool.true_or, Bool.false_or, Bool.or_true, Bool.or_false, Bool.toNat_true, Bool.toNat_false, Bool.false_eq_true, Bool.true_eq_false, not_true_eq_false, not_false_eq_true]; done) | (simp [h_7]; done)
            · skip
              refine lv_iconst (v := (nI 1)) S.1 S.2.1 dX14_isPair_127 (by decide) ?_
              refine lv_goto (tgt := 185) S.1 S.2.1 dX14_isPair_128 (by decide) ?_
              refine W.eq ?_ j_8
              first | (simp only [h_7, eq_self, decide_true, decide_false, if_true, if_false, reduceIte, Bool.not_true, Bool.not_false, Bool.true_and, Bool.false_and, Bool.and_true, Bool.and_false, Bool.true_or, Bool.false_or, Bool.or_true, Bool.or_false, Bool.toNat_true, Bool.toNat_false, Bool.false_eq_true, Bool.true_eq_false, not_true_eq_false, not_false_eq_true]; done) | (simp [h_7]; done)
          have er : (decide (((fV b1) ^^^ (fV b2)) = (1 <<< c1))) = (prB al rl fO fV fA fD c1 b1 b2) := by 
            have q1 : (al.testBit b1 && al.testBit b2) = true := by rw [← b_two]; exact h_3
            have q3 : ¬ (fV b1).testBit c1 = (fV b2).testBit c1 := fun z => h_5 (un_bit.mpr z)
            have q4 : (fV b1 ^^^ fV b2).testBit c1 = true := by rw [Nat.testBit_xor]; revert q3; cases (fV b1).testBit c1 <;> cases (fV b2).testBit c1 <;> simp
            unfold prB; rw [← Bool.and_assoc, q1, decide_eq_false h_4, decide_eq_false q3]
            show _ = areF fV fA fD rl c1 b1 b2
            unfold areF; rw [sw_6]
            rw [if_pos rfl]; exact decide_eq_decide.mpr (pr_sw q4)
          exact r_iret S B hS dX14_isPair_185 (nar_b _) (Nat.le_of_ble_eq_true rfl) (Nat.le_of_ble_eq_true rfl) (congrArg (fun z : Bool => some (Value.int (nI z.toNat))) er)
        · skip
          refine lv_lookup (off := 40) (tgt := 135) S.1 S.2.1 dX14_isPair_95 (by decide) (by rw [sw_6]; decide) (by decide) ?_
          refine lv_iload S.1 S.2.1 dX14_isPair_135 (lv_at hl 0 rfl) ?_
          refine lv_iload S.1 S.2.1 dX14_isPair_137 (lv_at hl 3 rfl) ?_
          refine n_iand S dX14_isPair_139 ?_
          suffices j_10 : W p l e rm_X14_isPair s m a below meth c s.heap locs 0 0 Q (F0 m 185 ls [.int (nI (Bool.toNat (!(decide ((((fA b1) &&& (fA b2)) &&& (1 <<< c1)) = 0)) && (decide ((((fV b1) ^^^ (fV b2)) &&& ((fA b1) &&& (fA b2))) = (1 <<< c1))))))]) by
            refine n_if_eq (tgt := 157) S dX14_isPair_140 (by decide) (by first | omega | exact Nat.lt_of_le_of_lt Nat.and_le_right (by omega) | exact Nat.lt_of_le_of_lt Nat.and_le_right (Nat.lt_trans (hfa b2) (by decide)) | exact Nat.lt_of_le_of_lt Nat.and_le_right (Nat.lt_of_le_of_lt Nat.and_le_right (Nat.lt_trans (hfa b2) (by decide)))) (fun h_9 => ?_) (fun h_9 => ?_)
            · skip
              refine lv_iconst (v := (nI 0)) S.1 S.2.1 dX14_isPair_157 (by decide) ?_
              refine lv_goto (tgt := 185) S.1 S.2.1 dX14_isPair_158 (by decide) ?_
              refine W.eq ?_ j_10
              first | (simp only [h_9, eq_self, decide_true, decide_false, if_true, if_false, reduceIte, Bool.not_true, Bool.not_false, Bool.true_and, Bool.false_and, Bool.and_true, Bool.and_false, Bool.true_or, Bool.false_or, Bool.or_true, Bool.or_false, Bool.toNat_true, Bool.toNat_false, Bool.false_eq_true, Bool.true_eq_false, not_true_eq_false, not_false_eq_true]; done) | (simp [h_9]; done)
            · skip
              refine lv_iload S.1 S.2.1 dX14_isPair_143 (lv_at hl 2 rfl) ?_
              refine lv_iload S.1 S.2.1 dX14_isPair_145 (lv_at hl 0 rfl) ?_
              refine n_iand S dX14_isPair_147 ?_
              refine lv_iload S.1 S.2.1 dX14_isPair_148 (lv_at hl 3 rfl) ?_
              refine n_icmp_ne (tgt := 157) S dX14_isPair_150 (by decide) (by first | omega | exact Nat.lt_of_le_of_lt Nat.and_le_right (by omega) | exact Nat.lt_of_le_of_lt Nat.and_le_right (Nat.lt_trans (hfa b2) (by decide)) | exact Nat.lt_of_le_of_lt Nat.and_le_right (Nat.lt_of_le_of_lt Nat.and_le_right (Nat.lt_trans (hfa b2) (by decide)))) (by first | omega | exact Nat.lt_of_le_of_lt Nat.and_le_right (by omega) | exact Nat.lt_of_le_of_lt Nat.and_le_right (Nat.lt_trans (hfa b2) (by decide)) | exact Nat.lt_of_le_of_lt Nat.and_le_right (Nat.lt_of_le_of_lt Nat.and_le_right (Nat.lt_trans (hfa b2) (by decide)))) (fun h_11 => ?_) (fun h_11 => ?_)
              · skip
                refine lv_iconst (v := (nI 0)) S.1 S.2.1 dX14_isPair_157 (by decide) ?_
                refine lv_goto (tgt := 185) S.1 S.2.1 dX14_isPair_158 (by decide) ?_
                refine W.eq ?_ j_10
                first | (simp only [h_9, h_11, eq_self, decide_true, decide_false, if_true, if_false, reduceIte, Bool.not_true, Bool.not_false, Bool.true_and, Bool.false_and, Bool.and_true, Bool.and_false, Bool.true_or, Bool.false_or, Bool.or_true, Bool.or_false, Bool.toNat_true, Bool.toNat_false, Bool.false_eq_true, Bool.true_eq_false, not_true_eq_false, not_false_eq_true]; done) | (simp [h_9, h_11]; done)
              · skip
                refine lv_iconst (v := (nI 1)) S.1 S.2.1 dX14_isPair_153 (by decide) ?_
                refine lv_goto (tgt := 185) S.1 S.2.1 dX14_isPair_154 (by decide) ?_
                refine W.eq ?_ j_10
                first | (simp only [h_9, h_11, eq_self, decide_true, decide_false, if_true, if_false, reduceIte, Bool.not_true, Bool.not_false, Bool.true_and, Bool.false_and, Bool.and_true, Bool.and_false, Bool.true_or, Bool.false_or, Bool.or_true, Bool.or_false, Bool.toNat_true, Bool.toNat_false, Bool.false_eq_true, Bool.true_eq_false, not_true_eq_false, not_false_eq_true]; done) | (simp [h_9, h_11]; done)
          have er : (!(decide ((((fA b1) &&& (fA b2)) &&& (1 <<< c1)) = 0)) && (decide ((((fV b1) ^^^ (fV b2)) &&& ((fA b1) &&& (fA b2))) = (1 <<< c1)))) = (prB al rl fO fV fA fD c1 b1 b2) := by 
            have q1 : (al.testBit b1 && al.testBit b2) = true := by rw [← b_two]; exact h_3
            have q3 : ¬ (fV b1).testBit c1 = (fV b2).testBit c1 := fun z => h_5 (un_bit.mpr z)
            have q4 : (fV b1 ^^^ fV b2).testBit c1 = true := by rw [Nat.testBit_xor]; revert q3; cases (fV b1).testBit c1 <;> cases (fV b2).testBit c1 <;> simp
            unfold prB; rw [← Bool.and_assoc, q1, decide_eq_false h_4, decide_eq_false q3]
            show _ = areF fV fA fD rl c1 b1 b2
            unfold areF; rw [sw_6]
            rw [if_neg (by decide), if_pos rfl, Bool.eq_iff_iff]
            simp only [Bool.and_eq_true, Bool.not_eq_true', decide_eq_true_eq, decide_eq_false_iff_not]
            exact pr_as q4
          exact r_iret S B hS dX14_isPair_185 (nar_b _) (Nat.le_of_ble_eq_true rfl) (Nat.le_of_ble_eq_true rfl) (congrArg (fun z : Bool => some (Value.int (nI z.toNat))) er)
        · skip
          refine lv_lookup (off := 66) (tgt := 161) S.1 S.2.1 dX14_isPair_95 (by decide) (by rw [sw_6]; decide) (by decide) ?_
          refine lv_aload_n S.1 S.2.1 dX14_isPair_161 rfl (lv_at hl 4 rfl) ?_
          refine x_get S cc_X14 h_tb hK (v := .ref dc) 6 (by decide) q1549 (fun _ hx => hx) rfl dX14_isPair_162 ?_
          refine lv_iload_n S.1 S.2.1 dX14_isPair_165 rfl (lv_at hl 6 rfl) ?_
          refine x_iald S (i := b1) (f := fD) h_dc hK (by show _ < (_ : Nat); first | assumption | omega) (by first | decide | omega) dX14_isPair_166 ?_
          refine lv_aload_n S.1 S.2.1 dX14_isPair_167 rfl (lv_at hl 4 rfl) ?_
          refine x_get S cc_X14 h_tb hK (v := .ref dc) 6 (by decide) q1549 (fun _ hx => hx) rfl dX14_isPair_168 ?_
          refine lv_iload_n S.1 S.2.1 dX14_isPair_171 rfl (lv_at hl 7 rfl) ?_
          refine x_iald S (i := b2) (f := fD) h_dc hK (by show _ < (_ : Nat); first | assumption | omega) (by first | decide | omega) dX14_isPair_172 ?_
          refine n_iand S dX14_isPair_173 ?_
          refine lv_iload S.1 S.2.1 dX14_isPair_174 (lv_at hl 3 rfl) ?_
          refine n_iand S dX14_isPair_176 ?_
          suffices j_13 : W p l e rm_X14_isPair s m a below meth c s.heap locs 0 0 Q (F0 m 185 ls [.int (nI (Bool.toNat (!(decide ((((fD b1) &&& (fD b2)) &&& (1 <<< c1)) = 0)))))]) by
            refine n_if_eq (tgt := 184) S dX14_isPair_177 (by decide) (by first | omega | exact Nat.lt_of_le_of_lt Nat.and_le_right (by omega) | exact Nat.lt_of_le_of_lt Nat.and_le_right (Nat.lt_trans (hfa b2) (by decide)) | exact Nat.lt_of_le_of_lt Nat.and_le_right (Nat.lt_of_le_of_lt Nat.and_le_right (Nat.lt_trans (hfa b2) (by decide)))) (fun h_12 => ?_) (fun h_12 => ?_)
            · skip
              refine lv_iconst (v := (nI 0)) S.1 S.2.1 dX14_isPair_184 (by decide) ?_
              refine W.eq ?_ j_13
              first | (simp only [h_12, eq_self, decide_true, decide_false, if_true, if_false, reduceIte, Bool.not_true, Bool.not_false, Bool.true_and, Bool.false_and, Bool.and_true, Bool.and_false, Bool.true_or, Bool.false_or, Bool.or_true, Bool.or_false, Bool.toNat_true, Bool.toNat_false, Bool.false_eq_true, Bool.true_eq_false, not_true_eq_false, not_false_eq_true]; done) | (simp [h_12]; done)
            · skip
              refine lv_iconst (v := (nI 1)) S.1 S.2.1 dX14_isPair_180 (by decide) ?_
              refine lv_goto (tgt := 185) S.1 S.2.1 dX14_isPair_181 (by decide) ?_
              refine W.eq ?_ j_13
              first | (simp only [h_12, eq_self, decide_true, decide_false, if_true, if_false, reduceIte, Bool.not_true, Bool.not_false, Bool.true_and, Bool.false_and, Bool.and_true, Bool.and_false, Bool.true_or, Bool.false_or, Bool.or_true, Bool.or_false, Bool.toNat_true, Bool.toNat_false, Bool.false_eq_true, Bool.true_eq_false, not_true_eq_false, not_false_eq_true]; done) | (simp [h_12]; done)
          have er : (!(decide ((((fD b1) &&& (fD b2)) &&& (1 <<< c1)) = 0))) = (prB al rl fO fV fA fD c1 b1 b2) := by 
            have q1 : (al.testBit b1 && al.testBit b2) = true := by rw [← b_two]; exact h_3
            have q3 : ¬ (fV b1).testBit c1 = (fV b2).testBit c1 := fun z => h_5 (un_bit.mpr z)
            have q4 : (fV b1 ^^^ fV b2).testBit c1 = true := by rw [Nat.testBit_xor]; revert q3; cases (fV b1).testBit c1 <;> cases (fV b2).testBit c1 <;> simp
            unfold prB; rw [← Bool.and_assoc, q1, decide_eq_false h_4, decide_eq_false q3]
            show _ = areF fV fA fD rl c1 b1 b2
            unfold areF; rw [sw_6]
            rw [if_neg (by decide), if_neg (by decide), Bool.eq_iff_iff]
            simp only [Bool.not_eq_true', decide_eq_false_iff_not]
            exact pr_ms
          exact r_iret S B hS dX14_isPair_185 (nar_b _) (Nat.le_of_ble_eq_true rfl) (Nat.le_of_ble_eq_true rfl) (congrArg (fun z : Bool => some (Value.int (nI z.toNat))) er)
      · skip
        refine lv_iconst (v := (nI 0)) S.1 S.2.1 dX14_isPair_74 (by decide) ?_
        have er : (false) = (prB al rl fO fV fA fD c1 b1 b2) := by 
          have q1 : (al.testBit b1 && al.testBit b2) = true := by rw [← b_two]; exact h_3
          have q3 := un_bit.mp h_5
          unfold prB; rw [← Bool.and_assoc, q1, decide_eq_false h_4, decide_eq_true q3]; rfl
        exact r_iret S B hS dX14_isPair_75 (by decide) (Nat.le_of_ble_eq_true rfl) (Nat.le_of_ble_eq_true rfl) (congrArg (fun z : Bool => some (Value.int (nI z.toNat))) er)
