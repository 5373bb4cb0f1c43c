set_option maxRecDepth 100000
abbrev rm_X13_forbids : Room := { frames := 0, cells := 0, slots := 0, locals := 0 }
set_option maxHeartbeats 4000000 in
theorem cx_X13_forbids (l : Launch) (w : Wd) (o : Nat) (f1 : Nat) (v1 : Bool) (f2 : Nat) (v2 : Bool) (v : Nat) (hf1 : f1 < 4) (hf2 : f2 < 4) (hv : v < 16) : Ctr (GX w) l yX13_forbids cX13_forbids 2 (some .boolean) rm_X13_forbids [.ref o, .int (nI v)] (fun H => va_at w.D clA (o, .inr (6, [.int (nI f1), .int (nI (Bool.toNat v1)), .int (nI f2), .int (nI (Bool.toNat v2))])) H) (fun _ vR _ => vR = some (.int (nI (Bool.toNat (decide (v.testBit f1 = v1) && decide (v.testBit f2 = v2)))))) (fun _ => False) := by
  refine Ctr.mk (by decide +kernel) (Nat.le_of_ble_eq_true rfl) ?_
  intro p e s m a below meth c Q ls S B hin hG hP hl
  have S : CallFix p m c cX13_forbids 2 s a lw_all RX13 := S
  have hl : lv_has ls 2 [(0, .ref o), (1, .int (nI v))] := hl
  have hK := hG.kn
  have h_o := hP
  obtain ⟨A, hAe⟩ : ∃ A : Nat → Prop, A = (fun _ => False) := ⟨_, rfl⟩
  rw [← hAe] at B
  have hS : Sx A s s.heap [] := Sx.rf
  generalize ([] : List Loc) = locs at hS ⊢
  have hAn : ∀ q, ¬ A q := fun q h => by rw [hAe] at h; exact h
  have hA0 : ∀ q, A q → w.b0 ≤ q := fun q h => (hAn q h).elim
  have hSl := hS.le
  refine lv_iload_n S.1 S.2.1 dX13_forbids_0 rfl (lv_at hl 1 rfl) ?_
  refine lv_aload_n S.1 S.2.1 dX13_forbids_1 rfl (lv_at hl 0 rfl) ?_
  refine x_get S cc_X13 h_o hK (v := .int (nI f1)) 0 (by decide) q1462 (fun _ hx => hx) rfl dX13_forbids_2 ?_
  refine n_ishr S dX13_forbids_5 (by omega) (by omega) ?_
  refine lv_iconst (v := (nI 1)) S.1 S.2.1 dX13_forbids_6 (by decide) ?_
  refine n_iand S dX13_forbids_7 ?_
  refine lv_iconst (v := (nI 1)) S.1 S.2.1 dX13_forbids_8 (by decide) ?_
  suffices j_2 : W p l e rm_X13_forbids s m a below meth c s.heap locs 0 0 Q (F0 m 17 ls [.int (nI (Bool.toNat (decide (((v >>> f1) &&& 1) = 1))))]) by
    refine n_icmp_ne (tgt := 16) S dX13_forbids_9 (by decide) (by first | omega | assumption | exact b_lt _ | exact Nat.lt_of_le_of_lt Nat.and_le_right (by decide) | exact Nat.lt_of_le_of_lt Nat.and_le_right (by omega) | exact Nat.lt_of_le_of_lt Nat.and_le_left (by omega)) (by decide) (fun h_1 => ?_) (fun h_1 => ?_)
    · skip
      refine lv_iconst (v := (nI 0)) S.1 S.2.1 dX13_forbids_16 (by decide) ?_
      refine W.eq ?_ j_2
      first | (simp only [h_1, eq_self, decide_true, decide_false, if_true, if_false, reduceIte, Bool.not_true, Bool.not_false, Bool.true_and, Bool.false_and, Bool.and_true, Bool.and_false, Bool.true_or, Bool.false_or, Bool.or_true, Bool.or_false, Bool.toNat_true, Bool.toNat_false, Bool.false_eq_true, Bool.true_eq_false, not_true_eq_false, not_false_eq_true]; done) | (simp [h_1]; done)
    · skip
      refine lv_iconst (v := (nI 1)) S.1 S.2.1 dX13_forbids_12 (by decide) ?_
      refine lv_goto (tgt := 17) S.1 S.2.1 dX13_forbids_13 (by decide) ?_
      refine W.eq ?_ j_2
      first | (simp only [h_1, eq_self, decide_true, decide_false, if_true, if_false, reduceIte, Bool.not_true, Bool.not_false, Bool.true_and, Bool.false_and, Bool.and_true, Bool.and_false, Bool.true_or, Bool.false_or, Bool.or_true, Bool.or_false, Bool.toNat_true, Bool.toNat_false, Bool.false_eq_true, Bool.true_eq_false, not_true_eq_false, not_false_eq_true]; done) | (simp [h_1]; done)
  refine lv_aload_n S.1 S.2.1 dX13_forbids_17 rfl (lv_at hl 0 rfl) ?_
  refine x_get S cc_X13 h_o hK (v := .int (nI (Bool.toNat v1))) 1 (by decide) q1463 (fun _ hx => hx) rfl dX13_forbids_18 ?_
  suffices j_4 : W p l e rm_X13_forbids s m a below meth c s.heap locs 0 0 Q (F0 m 53 ls [.int (nI (Bool.toNat ((decide ((decide (((v >>> f1) &&& 1) = 1)) = v1)) && (decide ((decide (((v >>> f2) &&& 1) = 1)) = v2)))))]) by
    refine b_icmp_ne (tgt := 52) S dX13_forbids_21 (by decide) (fun h_3 => ?_) (fun h_3 => ?_)
    · skip
      refine lv_iconst (v := (nI 0)) S.1 S.2.1 dX13_forbids_52 (by decide) ?_
      refine W.eq ?_ j_4
      first | (simp only [h_3, eq_self, decide_true, decide_false, if_true, if_false, reduceIte, Bool.not_true, Bool.not_false, Bool.true_and, Bool.false_and, Bool.and_true, Bool.and_false, Bool.true_or, Bool.false_or, Bool.or_true, Bool.or_false, Bool.toNat_true, Bool.toNat_false, Bool.false_eq_true, Bool.true_eq_false, not_true_eq_false, not_false_eq_true]; done) | (simp [h_3]; done)
    · skip
      refine lv_iload_n S.1 S.2.1 dX13_forbids_24 rfl (lv_at hl 1 rfl) ?_
      refine lv_aload_n S.1 S.2.1 dX13_forbids_25 rfl (lv_at hl 0 rfl) ?_
      refine x_get S cc_X13 h_o hK (v := .int (nI f2)) 2 (by decide) q1464 (fun _ hx => hx) rfl dX13_forbids_26 ?_
      refine n_ishr S dX13_forbids_29 (by first | omega | assumption | exact b_lt _ | exact Nat.lt_of_le_of_lt Nat.and_le_right (by decide) | exact Nat.lt_of_le_of_lt Nat.and_le_right (by omega) | exact Nat.lt_of_le_of_lt Nat.and_le_left (by omega)) (by omega) ?_
      refine lv_iconst (v := (nI 1)) S.1 S.2.1 dX13_forbids_30 (by decide) ?_
      refine n_iand S dX13_forbids_31 ?_
      refine lv_iconst (v := (nI 1)) S.1 S.2.1 dX13_forbids_32 (by decide) ?_
      suffices j_6 : W p l e rm_X13_forbids s m a below meth c s.heap locs 0 0 Q (F0 m 41 ls [.int (nI (Bool.toNat (decide (((v >>> f2) &&& 1) = 1))))]) by
        refine n_icmp_ne (tgt := 40) S dX13_forbids_33 (by decide) (by first | omega | assumption | exact b_lt _ | exact Nat.lt_of_le_of_lt Nat.and_le_right (by decide) | exact Nat.lt_of_le_of_lt Nat.and_le_right (by omega) | exact Nat.lt_of_le_of_lt Nat.and_le_left (by omega)) (by decide) (fun h_5 => ?_) (fun h_5 => ?_)
        · skip
          refine lv_iconst (v := (nI 0)) S.1 S.2.1 dX13_forbids_40 (by decide) ?_
          refine W.eq ?_ j_6
          first | (simp only [h_5, eq_self, decide_true, decide_false, if_true, if_false, reduceIte, Bool.not_true, Bool.not_false, Bool.true_and, Bool.false_and, Bool.and_true, Bool.and_false, Bool.true_or, Bool.false_or, Bool.or_true, Bool.or_false, Bool.toNat_true, Bool.toNat_false, Bool.false_eq_true, Bool.true_eq_false, not_true_eq_false, not_false_eq_true]; done) | (simp [h_5]; done)
        · skip
          refine lv_iconst (v := (nI 1)) S.1 S.2.1 dX13_forbids_36 (by decide) ?_
          refine lv_goto (tgt := 41) S.1 S.2.1 dX13_forbids_37 (by decide) ?_
          refine W.eq ?_ j_6
          first | (simp only [h_5, eq_self, decide_true, decide_false, if_true, if_false, reduceIte, Bool.not_true, Bool.not_false, Bool.true_and, Bool.false_and, Bool.and_true, Bool.and_false, Bool.true_or, Bool.false_or, Bool.or_true, Bool.or_false, Bool.toNat_true, Bool.toNat_false, Bool.false_eq_true, Bool.true_eq_false, not_true_eq_false, not_false_eq_true]; done) | (simp [h_5]; done)
      refine lv_aload_n S.1 S.2.1 dX13_forbids_41 rfl (lv_at hl 0 rfl) ?_
      refine x_get S cc_X13 h_o hK (v := .int (nI (Bool.toNat v2))) 3 (by decide) q1465 (fun _ hx => hx) rfl dX13_forbids_42 ?_
      refine b_icmp_ne (tgt := 52) S dX13_forbids_45 (by decide) (fun h_7 => ?_) (fun h_7 => ?_)
      · skip
        refine lv_iconst (v := (nI 0)) S.1 S.2.1 dX13_forbids_52 (by decide) ?_
        refine W.eq ?_ j_4
        first | (simp only [h_3, h_7, eq_self, decide_true, decide_false, if_true, if_false, reduceIte, Bool.not_true, Bool.not_false, Bool.true_and, Bool.false_and, Bool.and_true, Bool.and_false, Bool.true_or, Bool.false_or, Bool.or_true, Bool.or_false, Bool.toNat_true, Bool.toNat_false, Bool.false_eq_true, Bool.true_eq_false, not_true_eq_false, not_false_eq_true]; done) | (simp [h_3, h_7]; done)
      · skip
        refine lv_iconst (v := (nI 1)) S.1 S.2.1 dX13_forbids_48 (by decide) ?_
        refine lv_goto (tgt := 53) S.1 S.2.1 dX13_forbids_49 (by decide) ?_
        refine W.eq ?_ j_4
        first | (simp only [h_3, h_7, eq_self, decide_true, decide_false, if_true, if_false, reduceIte, Bool.not_true, Bool.not_false, Bool.true_and, Bool.false_and, Bool.and_true, Bool.and_false, Bool.true_or, Bool.false_or, Bool.or_true, Bool.or_false, Bool.toNat_true, Bool.toNat_false, Bool.false_eq_true, Bool.true_eq_false, not_true_eq_false, not_false_eq_true]; done) | (simp [h_3, h_7]; done)
  have er : ((decide ((decide (((v >>> f1) &&& 1) = 1)) = v1)) && (decide ((decide (((v >>> f2) &&& 1) = 1)) = v2))) = (decide (v.testBit f1 = v1) && decide (v.testBit f2 = v2)) := by 
    rw [tb_eq, tb_eq]
  exact r_iret S B hS dX13_forbids_53 (nar_b _) (Nat.le_of_ble_eq_true rfl) (Nat.le_of_ble_eq_true rfl) (congrArg (fun z : Bool => some (Value.int (nI z.toNat))) er)
