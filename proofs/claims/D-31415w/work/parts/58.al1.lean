set_option maxRecDepth 100000
abbrev rm_J17_checkIndex : Room := { frames := 0, cells := 0, slots := 0, locals := 0 }
set_option maxHeartbeats 4000000 in
theorem cx_J17_checkIndex (l : Launch) (w : Wd) (i : Nat) (n : Nat) (hin2 : i < n) (hnb : n < 2147483648) : Ctr (GX w) l yJ17_checkIndex cJ17_checkIndex 3 (some .int) rm_J17_checkIndex [.int (nI i), .int (nI n), .null] (fun _ => True) (fun _ vR _ => vR = some (.int (nI i))) (fun _ => False) := by
  refine Ctr.mk (by decide +kernel) (Nat.le_of_ble_eq_true rfl) ?_
  intro p e s m a below meth c Q ls S B hin hG hP hl
  have S : CallFix p m c cJ17_checkIndex 3 s a lw_all RJ17 := S
  have hl : lv_has ls 3 [(0, .int (nI i)), (1, .int (nI n)), (2, .null)] := hl
  have hK := hG.kn
  obtain ⟨A, hAe⟩ : ∃ A : Nat → Prop, A = (fun _ => False) := ⟨_, rfl⟩
  rw [← hAe] at B
  have hS : Sx A s s.heap [] := Sx.rf
  generalize ([] : List Loc) = locs at hS ⊢
  have hAn : ∀ q, ¬ A q := fun q h => by rw [hAe] at h; exact h
  have hA0 : ∀ q, A q → w.b0 ≤ q := fun q h => (hAn q h).elim
  have hSl := hS.le
  refine lv_iload_n S.1 S.2.1 dJ17_checkIndex_0 rfl (lv_at hl 0 rfl) ?_
  refine n_if_lt (tgt := 9) S dJ17_checkIndex_1 (by decide) (by omega) ?_
  refine lv_iload_n S.1 S.2.1 dJ17_checkIndex_4 rfl (lv_at hl 0 rfl) ?_
  refine lv_iload_n S.1 S.2.1 dJ17_checkIndex_5 rfl (lv_at hl 1 rfl) ?_
  refine n_icmp_lt (tgt := 16) S dJ17_checkIndex_6 (by decide) (by omega) (by omega) (fun h_2 => ?_) (fun h_2 => ?_)
  · skip
    refine lv_iload_n S.1 S.2.1 dJ17_checkIndex_16 rfl (lv_at hl 0 rfl) ?_
    have er : (i) = (i) := by rfl
    exact r_iret S B hS dJ17_checkIndex_17 rfl (Nat.le_of_ble_eq_true rfl) (Nat.le_of_ble_eq_true rfl) (congrArg (fun z : Nat => some (Value.int (nI z))) er)
  · skip
    exact absurd hin2 h_2

abbrev rm_J25_checkIndex : Room := { frames := 1, cells := 0, slots := 0, locals := 22 }
set_option maxHeartbeats 4000000 in
theorem cx_J25_checkIndex (l : Launch) (w : Wd) (i : Nat) (n : Nat) (hin2 : i < n) (hnb : n < 2147483648) : Ctr (GX w) l yJ25_checkIndex cJ25_checkIndex 2 (some .int) rm_J25_checkIndex [.int (nI i), .int (nI n)] (fun _ => True) (fun _ vR _ => vR = some (.int (nI i))) (fun _ => False) := by
  refine Ctr.mk (by decide +kernel) (Nat.le_of_ble_eq_true rfl) ?_
  intro p e s m a below meth c Q ls S B hin hG hP hl
  have S : CallFix p m c cJ25_checkIndex 2 s a lw_all RJ25 := S
  have hl : lv_has ls 2 [(0, .int (nI i)), (1, .int (nI n))] := hl
  have hK := hG.kn
  obtain ⟨A, hAe⟩ : ∃ A : Nat → Prop, A = (fun _ => False) := ⟨_, rfl⟩
  rw [← hAe] at B
  have hS : Sx A s s.heap [] := Sx.rf
  generalize ([] : List Loc) = locs at hS ⊢
  have hAn : ∀ q, ¬ A q := fun q h => by rw [hAe] at h; exact h
  have hA0 : ∀ q, A q → w.b0 ≤ q := fun q h => (hAn q h).elim
  have hSl := hS.le
  refine lv_iload_n S.1 S.2.1 dJ25_checkIndex_0 rfl (lv_at hl 0 rfl) ?_
  refine lv_iload_n S.1 S.2.1 dJ25_checkIndex_1 rfl (lv_at hl 1 rfl) ?_
  refine lv_null S.1 S.2.1 dJ25_checkIndex_2 ?_
  refine r_callS S (cx_J17_checkIndex l w i n hin2 hnb) (lw_S q1143 q876 q77 q877) ⟨by decide +kernel, by decide +kernel, by show _ = some 3; decide +kernel⟩ ⟨Nat.le_of_ble_eq_true rfl, Nat.le_of_ble_eq_true rfl⟩ (GX.blind w) (hG.at hS hA0) trivial hl.1 (rest := []) rfl (Nat.le_of_ble_eq_true rfl) dJ25_checkIndex_3 ⟨(Nat.le_of_ble_eq_true rfl), (Nat.le_of_ble_eq_true rfl)⟩ hS (fun _ h => h.elim) (fun vR H locs hp hz hk hS => ?_)
  subst hp
  have hSl := hS.le
  refine W.eq (g2 := F0 m 6 ls [.int (nI i)]) rfl ?_
  have er : (i) = (i) := by rfl
  exact r_iret S B hS dJ25_checkIndex_6 rfl (Nat.le_of_ble_eq_true rfl) (Nat.le_of_ble_eq_true rfl) (congrArg (fun z : Nat => some (Value.int (nI z))) er)

abbrev rm_J3_size : Room := { frames := 0, cells := 0, slots := 0, locals := 0 }
set_option maxHeartbeats 4000000 in
theorem cx_J3_size (l : Launch) (w : Wd) (al : Nat) (mc : Nat) (ea : Nat) (sz : Nat) : Ctr (GX w) l yJ3_size cJ3_size 1 (some .int) rm_J3_size [.ref al] (fun H => va_at w.D clA (al, .inr (3, [.int (nI mc), .ref ea, .int (nI sz)])) H) (fun _ vR _ => vR = some (.int (nI sz))) (fun _ => False) := by
  refine Ctr.mk (by decide +kernel) (Nat.le_of_ble_eq_true rfl) ?_
  intro p e s m a below meth c Q ls S B hin hG hP hl
  have S : CallFix p m c cJ3_size 1 s a lw_all RJ3 := S
  have hl : lv_has ls 1 [(0, .ref al)] := hl
  have hK := hG.kn
  have h_al := hP
  obtain ⟨A, hAe⟩ : ∃ A : Nat → Prop, A = (fun _ => False) := ⟨_, rfl⟩
  rw [← hAe] at B
  have hS : Sx A s s.heap [] := Sx.rf
  generalize ([] : List Loc) = locs at hS ⊢
  have hAn : ∀ q, ¬ A q := fun q h => by rw [hAe] at h; exact h
  have hA0 : ∀ q, A q → w.b0 ≤ q := fun q h => (hAn q h).elim
  have hSl := hS.le
  refine lv_aload_n S.1 S.2.1 dJ3_size_0 rfl (lv_at hl 0 rfl) ?_
  refine x_get S cc_J3 h_al hK (v := .int (nI sz)) 2 (by decide) q144 (fun _ hx => hx) rfl dJ3_size_1 ?_
  have er : (sz) = (sz) := by rfl
  exact r_iret S B hS dJ3_size_4 rfl (Nat.le_of_ble_eq_true rfl) (Nat.le_of_ble_eq_true rfl) (congrArg (fun z : Nat => some (Value.int (nI z))) er)

abbrev rm_J3_elementData : Room := { frames := 0, cells := 0, slots := 0, locals := 0 }
set_option maxHeartbeats 4000000 in
theorem cx_J3_elementData (l : Launch) (w : Wd) (al : Nat) (mc : Nat) (ea : Nat) (sz : Nat) (cap : Nat) (ef : Nat → Option Nat) (i : Nat) (y : Nat) (his : i < sz) (hsc : sz ≤ cap) (hcb : cap < 2147483648) (hy : ef i = some y) : Ctr (GX w) l yJ3_elementData cJ3_elementData 2 (some (.object "java/lang/Object")) rm_J3_elementData [.ref al, .int (nI i)] (fun H => va_at w.D clA (al, .inr (3, [.int (nI mc), .ref ea, .int (nI sz)])) H ∧ va_at w.D clA (ea, .inl (w.dA 4, cap, .inr (.inr (.inr (.inr ef))))) H) (fun _ vR _ => vR = some (.ref y)) (fun _ => False) := by
  refine Ctr.mk (by decide +kernel) (Nat.le_of_ble_eq_true rfl) ?_
  intro p e s m a below meth c Q ls S B hin hG hP hl
  have S : CallFix p m c cJ3_elementData 2 s a lw_all RJ3 := S
  have hl : lv_has ls 2 [(0, .ref al), (1, .int (nI i))] := hl
  have hK := hG.kn
  obtain ⟨h_al, h_ea⟩ := hP
  obtain ⟨A, hAe⟩ : ∃ A : Nat → Prop, A = (fun _ => False) := ⟨_, rfl⟩
  rw [← hAe] at B
  have hS : Sx A s s.heap [] := Sx.rf
  generalize ([] : List Loc) = locs at hS ⊢
  have hAn : ∀ q, ¬ A q := fun q h => by rw [hAe] at h; exact h
  have hA0 : ∀ q, A q → w.b0 ≤ q := fun q h => (hAn q h).elim
  have hSl := hS.le
  refine lv_aload_n S.1 S.2.1 dJ3_elementData_0 rfl (lv_at hl 0 rfl) ?_
  refine x_get S cc_J3 h_al hK (v := .ref ea) 1 (by decide) q143 (fun _ hx => hx) rfl dJ3_elementData_1 ?_
  refine lv_iload_n S.1 S.2.1 dJ3_elementData_4 rfl (lv_at hl 1 rfl) ?_
  refine x_aald S 4 (ty := .object "java/lang/Object") h_ea hK rfl rfl (i := i) (by show _ < (_ : Nat); first | assumption | omega) (by first | decide | omega) (v := .ref y) (by rw [hy]; rfl) dJ3_elementData_5 ?_
  exact r_aret S B hS dJ3_elementData_6 (Or.inl ⟨_, rfl⟩) (Or.inr ⟨_, rfl⟩) (Nat.le_of_ble_eq_true rfl) (Nat.le_of_ble_eq_true rfl) rfl

abbrev rm_J3_get : Room := { frames := 2, cells := 0, slots := 0, locals := 43 }
set_option maxHeartbeats 4000000 in
theorem cx_J3_get (l : Launch) (w : Wd) (al : Nat) (mc : Nat) (ea : Nat) (sz : Nat) (cap : Nat) (ef : Nat → Option Nat) (i : Nat) (y : Nat) (his : i < sz) (hsc : sz ≤ cap) (hcb : cap < 2147483648) (hy : ef i = some y) : Ctr (GX w) l yJ3_get cJ3_get 2 (some (.object "java/lang/Object")) rm_J3_get [.ref al, .int (nI i)] (fun H => va_at w.D clA (al, .inr (3, [.int (nI mc), .ref ea, .int (nI sz)])) H ∧ va_at w.D clA (ea, .inl (w.dA 4, cap, .inr (.inr (.inr (.inr ef))))) H) (fun _ vR _ => vR = some (.ref y)) (fun _ => False) := by
  refine Ctr.mk (by decide +kernel) (Nat.le_of_ble_eq_true rfl) ?_
  intro p e s m a below meth c Q ls S B hin hG hP hl
  have S : CallFix p m c cJ3_get 2 s a lw_all RJ3 := S
  have hl : lv_has ls 2 [(0, .ref al), (1, .int (nI i))] := hl
  have hK := hG.kn
  obtain ⟨h_al, h_ea⟩ := hP
  obtain ⟨A, hAe⟩ : ∃ A : Nat → Prop, A = (fun _ => False) := ⟨_, rfl⟩
  rw [← hAe] at B
  have hS : Sx A s s.heap [] := Sx.rf
  generalize ([] : List Loc) = locs at hS ⊢
  have hAn : ∀ q, ¬ A q := fun q h => by rw [hAe] at h; exact h
  have hA0 : ∀ q, A q → w.b0 ≤ q := fun q h => (hAn q h).elim
  have hSl := hS.le
  refine lv_iload_n S.1 S.2.1 dJ3_get_0 rfl (lv_at hl 1 rfl) ?_
  refine lv_aload_n S.1 S.2.1 dJ3_get_1 rfl (lv_at hl 0 rfl) ?_
  refine x_get S cc_J3 h_al hK (v := .int (nI sz)) 2 (by decide) q144 (fun _ hx => hx) rfl dJ3_get_2 ?_
  refine r_callS S (cx_J25_checkIndex l w i sz his (show sz < 2147483648 by omega)) (lw_S q1140 q1141 q94 q1142) ⟨by decide +kernel, by decide +kernel, by show _ = some 2; decide +kernel⟩ ⟨Nat.le_of_ble_eq_true rfl, Nat.le_of_ble_eq_true rfl⟩ (GX.blind w) (hG.at hS hA0) trivial hl.1 (rest := []) rfl (Nat.le_of_ble_eq_true rfl) dJ3_get_5 ⟨(Nat.le_of_ble_eq_true rfl), (Nat.le_of_ble_eq_true rfl)⟩ hS (fun _ h => h.elim) (fun vR H locs hp hz hk hS => ?_)
  subst hp
  have hSl := hS.le
  refine W.eq (g2 := F0 m 8 ls [.int (nI i)]) rfl ?_
  refine lv_pop S.1 S.2.1 dJ3_get_8 rfl ?_
  refine lv_aload_n S.1 S.2.1 dJ3_get_9 rfl (lv_at hl 0 rfl) ?_
  refine lv_iload_n S.1 S.2.1 dJ3_get_10 rfl (lv_at hl 1 rfl) ?_
  refine r_callV S (C := "java/util/ArrayList") (cx_J3_elementData l w al mc ea sz cap ef i y his hsc hcb hy) (lw_V q1144 q1145 q1146 q59 q1147) ⟨rfl, by decide +kernel, by decide +kernel, by show _ = some 1; decide +kernel⟩ ⟨Nat.le_of_ble_eq_true rfl, Nat.le_of_ble_eq_true rfl⟩ (r_recv (va_at.old h_al hS (hAn _)) hK (q := (RJ3, TJ3, 3)) rfl) (GX.blind w) (hG.at hS hA0) ⟨(va_at.old h_al hS (hAn _)), (va_at.old h_ea hS (hAn _))⟩ hl.1 (rest := []) rfl (Nat.le_of_ble_eq_true rfl) dJ3_get_11 ⟨(Nat.le_of_ble_eq_true rfl), (Nat.le_of_ble_eq_true rfl)⟩ hS (fun _ h => h.elim) (fun vR H locs hp hz hk hS => ?_)
  subst hp
  have hSl := hS.le
  refine W.eq (g2 := F0 m 14 ls [.ref y]) rfl ?_
  exact r_aret S B hS dJ3_get_14 (Or.inl ⟨_, rfl⟩) (Or.inr ⟨_, rfl⟩) (Nat.le_of_ble_eq_true rfl) (Nat.le_of_ble_eq_true rfl) rfl
