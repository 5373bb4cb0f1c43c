set_option maxRecDepth 100000
abbrev rm_J5_size : Room := { frames := 0, cells := 0, slots := 0, locals := 0 }
set_option maxHeartbeats 4000000 in
theorem cx_J5_size (l : Launch) (w : Wd) (ll : Nat) (mc : Nat) (sz : Nat) (fst : Value) (lst : Value) : Ctr (GX w) l yJ5_size cJ5_size 1 (some .int) rm_J5_size [.ref ll] (fun H => va_at w.D clA (ll, .inr (4, [.int (nI mc), .int (nI sz), fst, lst])) H) (fun _ vR _ => vR = some (.int (nI sz))) (fun _ => False) := by
  refine Ctr.mk (by decide +kernel) (Nat.le_of_ble_eq_true rfl) ?_
  intro p e s m a below meth c Q ls S B hin hG hP hl
  have S : CallFix p m c cJ5_size 1 s a lw_all RJ5 := S
  have hl : lv_has ls 1 [(0, .ref ll)] := hl
  have hK := hG.kn
  have h_ll := hP
  obtain ⟨A, hAe⟩ : ∃ A : Nat → Prop, A = (fun _ => False) := ⟨_, rfl⟩
  rw [← hAe] at B
  have hS : Sx A s s.heap [] := Sx.rf
  generalize ([] : List Loc) = locs at hS ⊢
  have hAn : ∀ q, ¬ A q := fun q h => by rw [hAe] at h; exact h
  have hA0 : ∀ q, A q → w.b0 ≤ q := fun q h => (hAn q h).elim
  have hSl := hS.le
  refine lv_aload_n S.1 S.2.1 dJ5_size_0 rfl (lv_at hl 0 rfl) ?_
  refine x_get S cc_J5 h_ll hK (v := .int (nI sz)) 1 (by decide) q166 (fun _ hx => hx) rfl dJ5_size_1 ?_
  have er : (sz) = (sz) := by rfl
  exact r_iret S B hS dJ5_size_4 rfl (Nat.le_of_ble_eq_true rfl) (Nat.le_of_ble_eq_true rfl) (congrArg (fun z : Nat => some (Value.int (nI z))) er)

abbrev rm_J5_isElementIndex : Room := { frames := 0, cells := 0, slots := 0, locals := 0 }
set_option maxHeartbeats 4000000 in
theorem cx_J5_isElementIndex (l : Launch) (w : Wd) (ll : Nat) (mc : Nat) (sz : Nat) (fst : Value) (lst : Value) (i : Nat) (his : i < sz) (hsb : sz < 2147483648) : Ctr (GX w) l yJ5_isElementIndex cJ5_isElementIndex 2 (some .boolean) rm_J5_isElementIndex [.ref ll, .int (nI i)] (fun H => va_at w.D clA (ll, .inr (4, [.int (nI mc), .int (nI sz), fst, lst])) H) (fun _ vR _ => vR = some (.int (nI (Bool.toNat true)))) (fun _ => False) := by
  refine Ctr.mk (by decide +kernel) (Nat.le_of_ble_eq_true rfl) ?_
  intro p e s m a below meth c Q ls S B hin hG hP hl
  have S : CallFix p m c cJ5_isElementIndex 2 s a lw_all RJ5 := S
  have hl : lv_has ls 2 [(0, .ref ll), (1, .int (nI i))] := hl
  have hK := hG.kn
  have h_ll := hP
  obtain ⟨A, hAe⟩ : ∃ A : Nat → Prop, A = (fun _ => False) := ⟨_, rfl⟩
  rw [← hAe] at B
  have hS : Sx A s s.heap [] := Sx.rf
  generalize ([] : List Loc) = locs at hS ⊢
  have hAn : ∀ q, ¬ A q := fun q h => by rw [hAe] at h; exact h
  have hA0 : ∀ q, A q → w.b0 ≤ q := fun q h => (hAn q h).elim
  have hSl := hS.le
  refine lv_iload_n S.1 S.2.1 dJ5_isElementIndex_0 rfl (lv_at hl 1 rfl) ?_
  refine n_if_lt (tgt := 16) S dJ5_isElementIndex_1 (by decide) (by omega) ?_
  refine lv_iload_n S.1 S.2.1 dJ5_isElementIndex_4 rfl (lv_at hl 1 rfl) ?_
  refine lv_aload_n S.1 S.2.1 dJ5_isElementIndex_5 rfl (lv_at hl 0 rfl) ?_
  refine x_get S cc_J5 h_ll hK (v := .int (nI sz)) 1 (by decide) q166 (fun _ hx => hx) rfl dJ5_isElementIndex_6 ?_
  suffices j_3 : W p l e rm_J5_isElementIndex s m a below meth c s.heap locs 0 0 Q (F0 m 17 ls [.int (nI (Bool.toNat (!(decide (sz ≤ i)))))]) by
    refine n_icmp_ge (tgt := 16) S dJ5_isElementIndex_9 (by decide) (by omega) (by omega) (fun h_2 => ?_) (fun h_2 => ?_)
    · skip
      refine lv_iconst (v := (nI 0)) S.1 S.2.1 dJ5_isElementIndex_16 (by decide) ?_
      refine W.eq ?_ j_3
      first | (simp only [h_2, eq_self, decide_true, decide_false, if_true, if_false, reduceIte, Bool.not_true, Bool.not_false, Bool.true_and, Bool.false_and, Bool.and_true, Bool.and_false, Bool.true_or, Bool.false_or, Bool.or_true, Bool.or_false, Bool.toNat_true, Bool.toNat_false, Bool.false_eq_true, Bool.true_eq_false, not_true_eq_false, not_false_eq_true]; done) | (simp [h_2]; done)
    · skip
      refine lv_iconst (v := (nI 1)) S.1 S.2.1 dJ5_isElementIndex_12 (by decide) ?_
      refine lv_goto (tgt := 17) S.1 S.2.1 dJ5_isElementIndex_13 (by decide) ?_
      refine W.eq ?_ j_3
      first | (simp only [h_2, eq_self, decide_true, decide_false, if_true, if_false, reduceIte, Bool.not_true, Bool.not_false, Bool.true_and, Bool.false_and, Bool.and_true, Bool.and_false, Bool.true_or, Bool.false_or, Bool.or_true, Bool.or_false, Bool.toNat_true, Bool.toNat_false, Bool.false_eq_true, Bool.true_eq_false, not_true_eq_false, not_false_eq_true]; done) | (simp [h_2]; done)
  have er : (!(decide (sz ≤ i))) = (true) := by rw [decide_eq_false (by omega)]; rfl
  exact r_iret S B hS dJ5_isElementIndex_17 (nar_b _) (Nat.le_of_ble_eq_true rfl) (Nat.le_of_ble_eq_true rfl) (congrArg (fun z : Bool => some (Value.int (nI z.toNat))) er)

abbrev rm_J5_checkElementIndex : Room := { frames := 1, cells := 0, slots := 0, locals := 21 }
set_option maxHeartbeats 4000000 in
theorem cx_J5_checkElementIndex (l : Launch) (w : Wd) (ll : Nat) (mc : Nat) (sz : Nat) (fst : Value) (lst : Value) (i : Nat) (his : i < sz) (hsb : sz < 2147483648) : Ctr (GX w) l yJ5_checkElementIndex cJ5_checkElementIndex 2 none rm_J5_checkElementIndex [.ref ll, .int (nI i)] (fun H => va_at w.D clA (ll, .inr (4, [.int (nI mc), .int (nI sz), fst, lst])) H) (fun _ vR _ => vR = none) (fun _ => False) := by
  refine Ctr.mk (by decide +kernel) (Nat.le_of_ble_eq_true rfl) ?_
  intro p e s m a below meth c Q ls S B hin hG hP hl
  have S : CallFix p m c cJ5_checkElementIndex 2 s a lw_all RJ5 := S
  have hl : lv_has ls 2 [(0, .ref ll), (1, .int (nI i))] := hl
  have hK := hG.kn
  have h_ll := hP
  obtain ⟨A, hAe⟩ : ∃ A : Nat → Prop, A = (fun _ => False) := ⟨_, rfl⟩
  rw [← hAe] at B
  have hS : Sx A s s.heap [] := Sx.rf
  generalize ([] : List Loc) = locs at hS ⊢
  have hAn : ∀ q, ¬ A q := fun q h => by rw [hAe] at h; exact h
  have hA0 : ∀ q, A q → w.b0 ≤ q := fun q h => (hAn q h).elim
  have hSl := hS.le
  refine lv_aload_n S.1 S.2.1 dJ5_checkElementIndex_0 rfl (lv_at hl 0 rfl) ?_
  refine lv_iload_n S.1 S.2.1 dJ5_checkElementIndex_1 rfl (lv_at hl 1 rfl) ?_
  refine r_callV S (C := "java/util/LinkedList") (cx_J5_isElementIndex l w ll mc sz fst lst i his hsb) (lw_V q263 q265 qs2 q61 q266) ⟨rfl, by decide +kernel, by decide +kernel, by show _ = some 1; decide +kernel⟩ ⟨Nat.le_of_ble_eq_true rfl, Nat.le_of_ble_eq_true rfl⟩ (r_recv h_ll hK (q := (RJ5, TJ5, 4)) rfl) (GX.blind w) (hG.at hS hA0) h_ll hl.1 (rest := []) rfl (Nat.le_of_ble_eq_true rfl) dJ5_checkElementIndex_2 ⟨(Nat.le_of_ble_eq_true rfl), (Nat.le_of_ble_eq_true rfl)⟩ hS (fun _ h => h.elim) (fun vR H locs hp hz hk hS => ?_)
  subst hp
  have hSl := hS.le
  refine W.eq (g2 := F0 m 5 ls [.int (nI (Bool.toNat true))]) rfl ?_
  refine b_if_ne (tgt := 21) S dJ5_checkElementIndex_5 (by decide) (fun h_1 => ?_) (fun h_1 => ?_)
  · skip
    exact r_vret S B hS dJ5_checkElementIndex_21 (Nat.le_of_ble_eq_true rfl) (Nat.le_of_ble_eq_true rfl) rfl
  · skip
    exact absurd h_1 (by decide)
