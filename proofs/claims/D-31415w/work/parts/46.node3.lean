set_option maxRecDepth 100000
set_option maxHeartbeats 4000000 in
theorem n_X6_tell (l : Launch) (w : Wd) {cm : Nat} (nd : Nat → Nat) (K : Nat → Nat) (O : Nat → Nat) (T : Nat → Nat) (L : Nat → Nat) (n : Nat) (lim : Nat) (x : Nat) (i : Nat) (hi : i < n) (hki : K i = 0) (hw : wfP K O T n cm) (hx : x < 2 ^ 31) (hcm : cm ≤ 8) : Ctr (GX w) l yX6_tell cX6_tell 2 (some .boolean) (rm_askN i) [.ref (nd i), .int (nI x)] (fun H => TP w nd K O T L n lim H) (fun _ vR _ => vR = some (.int (nI (Bool.toNat (ET K O T x i))))) (fun _ => False) := by
  refine Ctr.mk (by decide +kernel) (Nat.le_of_ble_eq_true rfl) ?_
  intro p e s m a below meth c Q ls S B hin hG hP hl
  have S : CallFix p m c cX6_tell 2 s a lw_all RX6 := S
  have hl : lv_has ls 2 [(0, .ref (nd i)), (1, .int (nI x))] := hl
  have hK := hG.kn
  have h_t := hP
  obtain ⟨A, hAe⟩ : ∃ A : Nat → Prop, A = (fun _ => False) := ⟨_, rfl⟩
  rw [← hAe] at B
  have hS : Sx A s s.heap [] := Sx.rf
  generalize ([] : List Loc) = locs at hS ⊢
  have hAn : ∀ q, ¬ A q := fun q h => by rw [hAe] at h; exact h
  have hA0 : ∀ q, A q → w.b0 ≤ q := fun q h => (hAn q h).elim
  have hSl := hS.le
  have ho := (hw i hi).2.1 hki
  have h_s : va_at w.D clA (nd i, .inr (8, [.int (nI (O i)), .int (nI (L (O i)))])) s.heap := h_t.at hi (ndE_0 hki)
  refine lv_iload_n S.1 S.2.1 dX6_tell_0 rfl (lv_at hl 1 rfl) ?_
  refine lv_aload_n S.1 S.2.1 dX6_tell_1 rfl (lv_at hl 0 rfl) ?_
  refine x_get S cc_X6 h_s hK (v := .int (nI (O i))) 0 (by decide) q1007 (fun _ hx => hx) rfl dX6_tell_2 ?_
  refine n_ishr S dX6_tell_5 hx (by omega) ?_
  refine lv_iconst (v := (nI 1)) S.1 S.2.1 dX6_tell_6 (by decide) ?_
  refine n_iand S dX6_tell_7 ?_
  refine lv_iconst (v := (nI 1)) S.1 S.2.1 dX6_tell_8 (by decide) ?_
  suffices j_2 : W p l e (rm_askN i) s m a below meth c s.heap locs 0 0 Q (F0 m 17 ls [.int (nI (Bool.toNat (decide (((x >>> (O i)) &&& 1) = 1))))]) by
    refine n_icmp_ne (tgt := 16) S dX6_tell_9 (by decide) (by first | omega | assumption | exact b_lt _ | exact Nat.lt_of_le_of_lt Nat.and_le_right (by decide) | exact Nat.lt_of_le_of_lt Nat.and_le_right (by omega) | exact Nat.lt_of_le_of_lt Nat.and_le_left (by omega)) (by decide) (fun h_1 => ?_) (fun h_1 => ?_)
    · skip
      refine lv_iconst (v := (nI 0)) S.1 S.2.1 dX6_tell_16 (by decide) ?_
      refine W.eq ?_ j_2
      first | (simp only [h_1, eq_self, decide_true, decide_false, if_true, if_false, reduceIte, Bool.not_true, Bool.not_false, Bool.true_and, Bool.false_and, Bool.and_true, Bool.and_false, Bool.true_or, Bool.false_or, Bool.or_true, Bool.or_false, Bool.toNat_true, Bool.toNat_false, Bool.false_eq_true, Bool.true_eq_false, not_true_eq_false, not_false_eq_true]; done) | (simp [h_1]; done)
    · skip
      refine lv_iconst (v := (nI 1)) S.1 S.2.1 dX6_tell_12 (by decide) ?_
      refine lv_goto (tgt := 17) S.1 S.2.1 dX6_tell_13 (by decide) ?_
      refine W.eq ?_ j_2
      first | (simp only [h_1, eq_self, decide_true, decide_false, if_true, if_false, reduceIte, Bool.not_true, Bool.not_false, Bool.true_and, Bool.false_and, Bool.and_true, Bool.and_false, Bool.true_or, Bool.false_or, Bool.or_true, Bool.or_false, Bool.toNat_true, Bool.toNat_false, Bool.false_eq_true, Bool.true_eq_false, not_true_eq_false, not_false_eq_true]; done) | (simp [h_1]; done)
  have er : (decide (((x >>> (O i)) &&& 1) = 1)) = (ET K O T x i) := by rw [tb_eq, et_0 hki]
  exact r_iret S B hS dX6_tell_17 (nar_b _) (Nat.le_refl 0) (Nat.le_refl 0) (congrArg (fun z : Bool => some (Value.int (nI z.toNat))) er)

set_option maxHeartbeats 4000000 in
theorem n_X5_tell (l : Launch) (w : Wd) {cm : Nat} (nd : Nat → Nat) (K : Nat → Nat) (O : Nat → Nat) (T : Nat → Nat) (L : Nat → Nat) (n : Nat) (lim : Nat) (x : Nat) (i : Nat) (hi : i < n) (hki : K i = 1) (hw : wfP K O T n cm) (hx : x < 2 ^ 31) (hcm : cm ≤ 8) (iO : TellC l w nd K O T L n lim x (O i)) : Ctr (GX w) l yX5_tell cX5_tell 2 (some .boolean) (rm_askN i) [.ref (nd i), .int (nI x)] (fun H => TP w nd K O T L n lim H) (fun _ vR _ => vR = some (.int (nI (Bool.toNat (ET K O T x i))))) (fun _ => False) := by
  refine Ctr.mk (by decide +kernel) (Nat.le_of_ble_eq_true rfl) ?_
  intro p e s m a below meth c Q ls S B hin hG hP hl
  have S : CallFix p m c cX5_tell 2 s a lw_all RX5 := S
  have hl : lv_has ls 2 [(0, .ref (nd i)), (1, .int (nI x))] := hl
  have hK := hG.kn
  have h_t := hP
  obtain ⟨A, hAe⟩ : ∃ A : Nat → Prop, A = (fun _ => False) := ⟨_, rfl⟩
  rw [← hAe] at B
  have hS : Sx A s s.heap [] := Sx.rf
  generalize ([] : List Loc) = locs at hS ⊢
  have hAn : ∀ q, ¬ A q := fun q h => by rw [hAe] at h; exact h
  have hA0 : ∀ q, A q → w.b0 ≤ q := fun q h => (hAn q h).elim
  have hSl := hS.le
  have ho := (hw i hi).2.2.1 (by omega)
  have hko := (hw (O i) (by omega)).1
  have h_s : va_at w.D clA (nd i, .inr (9, [.ref (nd (O i))])) s.heap := h_t.at hi (ndE_1 hki)
  refine lv_aload_n S.1 S.2.1 dX5_tell_0 rfl (lv_at hl 0 rfl) ?_
  refine x_get S cc_X5 h_s hK (v := .ref (nd (O i))) 0 (by decide) q935 (fun _ hx => hx) rfl dX5_tell_1 ?_
  refine lv_iload_n S.1 S.2.1 dX5_tell_4 rfl (lv_at hl 1 rfl) ?_
  refine x_tell S (iO) (hko) (by omega) hG q1737 h_t ⟨by show O i + 10 + 1 ≤ i + 10; omega, by show 8 + (2 + 11) + (O i * 40 + 200) ≤ i * 40 + 200; omega⟩ hA0 hl.1 (Nat.le_of_ble_eq_true rfl) dX5_tell_5 ⟨Nat.le_refl 0, Nat.le_refl 0⟩ hS (fun H locs hz hk hS => ?_)
  have hSl := hS.le
  suffices j_2 : W p l e (rm_askN i) s m a below meth c H locs 0 0 Q (F0 m 18 ls [.int (nI (Bool.toNat (!(ET K O T x (O i)))))]) by
    refine b_if_ne (tgt := 17) S dX5_tell_10 (by decide) (fun h_1 => ?_) (fun h_1 => ?_)
    · skip
      refine lv_iconst (v := (nI 0)) S.1 S.2.1 dX5_tell_17 (by decide) ?_
      refine W.eq ?_ j_2
      first | (simp only [h_1, eq_self, decide_true, decide_false, if_true, if_false, reduceIte, Bool.not_true, Bool.not_false, Bool.true_and, Bool.false_and, Bool.and_true, Bool.and_false, Bool.true_or, Bool.false_or, Bool.or_true, Bool.or_false, Bool.toNat_true, Bool.toNat_false, Bool.false_eq_true, Bool.true_eq_false, not_true_eq_false, not_false_eq_true]; done) | (simp [h_1]; done)
    · skip
      refine lv_iconst (v := (nI 1)) S.1 S.2.1 dX5_tell_13 (by decide) ?_
      refine lv_goto (tgt := 18) S.1 S.2.1 dX5_tell_14 (by decide) ?_
      refine W.eq ?_ j_2
      first | (simp only [h_1, eq_self, decide_true, decide_false, if_true, if_false, reduceIte, Bool.not_true, Bool.not_false, Bool.true_and, Bool.false_and, Bool.and_true, Bool.and_false, Bool.true_or, Bool.false_or, Bool.or_true, Bool.or_false, Bool.toNat_true, Bool.toNat_false, Bool.false_eq_true, Bool.true_eq_false, not_true_eq_false, not_false_eq_true]; done) | (simp [h_1]; done)
  have er : (!(ET K O T x (O i))) = (ET K O T x i) := by rw [et_1 hw hi hki]
  exact r_iret S B hS dX5_tell_18 (nar_b _) (Nat.le_refl 0) (Nat.le_refl 0) (congrArg (fun z : Bool => some (Value.int (nI z.toNat))) er)

set_option maxHeartbeats 4000000 in
theorem n_X10_tell (l : Launch) (w : Wd) {cm : Nat} (nd : Nat → Nat) (K : Nat → Nat) (O : Nat → Nat) (T : Nat → Nat) (L : Nat → Nat) (n : Nat) (lim : Nat) (x : Nat) (i : Nat) (hi : i < n) (hki : K i = 2) (hw : wfP K O T n cm) (hx : x < 2 ^ 31) (hcm : cm ≤ 8) (iO : TellC l w nd K O T L n lim x (O i)) (iT : TellC l w nd K O T L n lim x (T i)) : Ctr (GX w) l yX10_tell cX10_tell 2 (some .boolean) (rm_askN i) [.ref (nd i), .int (nI x)] (fun H => TP w nd K O T L n lim H) (fun _ vR _ => vR = some (.int (nI (Bool.toNat (ET K O T x i))))) (fun _ => False) := by
  refine Ctr.mk (by decide +kernel) (Nat.le_of_ble_eq_true rfl) ?_
  intro p e s m a below meth c Q ls S B hin hG hP hl
  have S : CallFix p m c cX10_tell 2 s a lw_all RX10 := S
  have hl : lv_has ls 2 [(0, .ref (nd i)), (1, .int (nI x))] := hl
  have hK := hG.kn
  have h_t := hP
  obtain ⟨A, hAe⟩ : ∃ A : Nat → Prop, A = (fun _ => False) := ⟨_, rfl⟩
  rw [← hAe] at B
  have hS : Sx A s s.heap [] := Sx.rf
  generalize ([] : List Loc) = locs at hS ⊢
  have hAn : ∀ q, ¬ A q := fun q h => by rw [hAe] at h; exact h
  have hA0 : ∀ q, A q → w.b0 ≤ q := fun q h => (hAn q h).elim
  have hSl := hS.le
  have ho := (hw i hi).2.2.1 (by omega)
  have hko := (hw (O i) (by omega)).1
  have ht := (hw i hi).2.2.2 (by omega)
  have hkt := (hw (T i) (by omega)).1
  have h_s : va_at w.D clA (nd i, .inr (10, [.ref (nd (O i)), .ref (nd (T i))])) s.heap := h_t.at hi (ndE_2 hki (by decide))
  refine lv_aload_n S.1 S.2.1 dX10_tell_0 rfl (lv_at hl 0 rfl) ?_
  refine x_get S cc_X10 h_s hK (v := .ref (nd (O i))) 0 (by decide) q1116 (fun _ hx => hx) rfl dX10_tell_1 ?_
  refine lv_iload_n S.1 S.2.1 dX10_tell_4 rfl (lv_at hl 1 rfl) ?_
  refine x_tell S (iO) (hko) (by omega) hG q1725 h_t ⟨by show O i + 10 + 1 ≤ i + 10; omega, by show 8 + (2 + 11) + (O i * 40 + 200) ≤ i * 40 + 200; omega⟩ hA0 hl.1 (Nat.le_of_ble_eq_true rfl) dX10_tell_5 ⟨Nat.le_refl 0, Nat.le_refl 0⟩ hS (fun H locs hz hk hS => ?_)
  have hSl := hS.le
  refine lv_aload_n S.1 S.2.1 dX10_tell_10 rfl (lv_at hl 0 rfl) ?_
  refine x_get S cc_X10 (va_at.old h_s hS (hAn _)) hK (v := .ref (nd (T i))) 1 (by decide) q1117 (fun _ hx => hx) rfl dX10_tell_11 ?_
  refine lv_iload_n S.1 S.2.1 dX10_tell_14 rfl (lv_at hl 1 rfl) ?_
  refine x_tell S (iT) (hkt) (by omega) hG q1725 (TP.mono h_t (fun q hq hz => hS.old hz (hAn _))) ⟨by show T i + 10 + 1 ≤ i + 10; omega, by show 8 + (2 + 11) + (T i * 40 + 200) ≤ i * 40 + 200; omega⟩ hA0 hl.1 (Nat.le_of_ble_eq_true rfl) dX10_tell_15 ⟨Nat.le_refl 0, Nat.le_refl 0⟩ hS (fun H locs hz hk hS => ?_)
  have hSl := hS.le
  refine n_iand S dX10_tell_20 ?_
  have er : ((Bool.toNat (ET K O T x (O i))) &&& (Bool.toNat (ET K O T x (T i)))) = Bool.toNat (ET K O T x i) := by rw [et_2 hw hi (by omega), if_pos hki]; cases ET K O T x (O i) <;> cases ET K O T x (T i) <;> rfl
  rw [er]
  exact r_iret S B hS dX10_tell_21 (nar_b _) (Nat.le_refl 0) (Nat.le_refl 0) rfl

set_option maxHeartbeats 4000000 in
theorem n_X8_tell (l : Launch) (w : Wd) {cm : Nat} (nd : Nat → Nat) (K : Nat → Nat) (O : Nat → Nat) (T : Nat → Nat) (L : Nat → Nat) (n : Nat) (lim : Nat) (x : Nat) (i : Nat) (hi : i < n) (hki : K i = 3) (hw : wfP K O T n cm) (hx : x < 2 ^ 31) (hcm : cm ≤ 8) (iO : TellC l w nd K O T L n lim x (O i)) (iT : TellC l w nd K O T L n lim x (T i)) : Ctr (GX w) l yX8_tell cX8_tell 2 (some .boolean) (rm_askN i) [.ref (nd i), .int (nI x)] (fun H => TP w nd K O T L n lim H) (fun _ vR _ => vR = some (.int (nI (Bool.toNat (ET K O T x i))))) (fun _ => False) := by
  refine Ctr.mk (by decide +kernel) (Nat.le_of_ble_eq_true rfl) ?_
  intro p e s m a below meth c Q ls S B hin hG hP hl
  have S : CallFix p m c cX8_tell 2 s a lw_all RX8 := S
  have hl : lv_has ls 2 [(0, .ref (nd i)), (1, .int (nI x))] := hl
  have hK := hG.kn
  have h_t := hP
  obtain ⟨A, hAe⟩ : ∃ A : Nat → Prop, A = (fun _ => False) := ⟨_, rfl⟩
  rw [← hAe] at B
  have hS : Sx A s s.heap [] := Sx.rf
  generalize ([] : List Loc) = locs at hS ⊢
  have hAn : ∀ q, ¬ A q := fun q h => by rw [hAe] at h; exact h
  have hA0 : ∀ q, A q → w.b0 ≤ q := fun q h => (hAn q h).elim
  have hSl := hS.le
  have ho := (hw i hi).2.2.1 (by omega)
  have hko := (hw (O i) (by omega)).1
  have ht := (hw i hi).2.2.2 (by omega)
  have hkt := (hw (T i) (by omega)).1
  have h_s : va_at w.D clA (nd i, .inr (11, [.ref (nd (O i)), .ref (nd (T i))])) s.heap := h_t.at hi (ndE_2 hki (by decide))
  refine lv_aload_n S.1 S.2.1 dX8_tell_0 rfl (lv_at hl 0 rfl) ?_
  refine x_get S cc_X8 h_s hK (v := .ref (nd (O i))) 0 (by decide) q1090 (fun _ hx => hx) rfl dX8_tell_1 ?_
  refine lv_iload_n S.1 S.2.1 dX8_tell_4 rfl (lv_at hl 1 rfl) ?_
  refine x_tell S (iO) (hko) (by omega) hG q1744 h_t ⟨by show O i + 10 + 1 ≤ i + 10; omega, by show 8 + (2 + 11) + (O i * 40 + 200) ≤ i * 40 + 200; omega⟩ hA0 hl.1 (Nat.le_of_ble_eq_true rfl) dX8_tell_5 ⟨Nat.le_refl 0, Nat.le_refl 0⟩ hS (fun H locs hz hk hS => ?_)
  have hSl := hS.le
  refine lv_aload_n S.1 S.2.1 dX8_tell_10 rfl (lv_at hl 0 rfl) ?_
  refine x_get S cc_X8 (va_at.old h_s hS (hAn _)) hK (v := .ref (nd (T i))) 1 (by decide) q1091 (fun _ hx => hx) rfl dX8_tell_11 ?_
  refine lv_iload_n S.1 S.2.1 dX8_tell_14 rfl (lv_at hl 1 rfl) ?_
  refine x_tell S (iT) (hkt) (by omega) hG q1744 (TP.mono h_t (fun q hq hz => hS.old hz (hAn _))) ⟨by show T i + 10 + 1 ≤ i + 10; omega, by show 8 + (2 + 11) + (T i * 40 + 200) ≤ i * 40 + 200; omega⟩ hA0 hl.1 (Nat.le_of_ble_eq_true rfl) dX8_tell_15 ⟨Nat.le_refl 0, Nat.le_refl 0⟩ hS (fun H locs hz hk hS => ?_)
  have hSl := hS.le
  refine n_ior S dX8_tell_20 ?_
  have er : ((Bool.toNat (ET K O T x (O i))) ||| (Bool.toNat (ET K O T x (T i)))) = Bool.toNat (ET K O T x i) := by rw [et_2 hw hi (by omega), if_neg (by omega), if_pos hki]; cases ET K O T x (O i) <;> cases ET K O T x (T i) <;> rfl
  rw [er]
  exact r_iret S B hS dX8_tell_21 (nar_b _) (Nat.le_refl 0) (Nat.le_refl 0) rfl

set_option maxHeartbeats 4000000 in
theorem n_X9_tell (l : Launch) (w : Wd) {cm : Nat} (nd : Nat → Nat) (K : Nat → Nat) (O : Nat → Nat) (T : Nat → Nat) (L : Nat → Nat) (n : Nat) (lim : Nat) (x : Nat) (i : Nat) (hi : i < n) (hki : K i = 4) (hw : wfP K O T n cm) (hx : x < 2 ^ 31) (hcm : cm ≤ 8) (iO : TellC l w nd K O T L n lim x (O i)) (iT : TellC l w nd K O T L n lim x (T i)) : Ctr (GX w) l yX9_tell cX9_tell 2 (some .boolean) (rm_askN i) [.ref (nd i), .int (nI x)] (fun H => TP w nd K O T L n lim H) (fun _ vR _ => vR = some (.int (nI (Bool.toNat (ET K O T x i))))) (fun _ => False) := by
  refine Ctr.mk (by decide +kernel) (Nat.le_of_ble_eq_true rfl) ?_
  intro p e s m a below meth c Q ls S B hin hG hP hl
  have S : CallFix p m c cX9_tell 2 s a lw_all RX9 := S
  have hl : lv_has ls 2 [(0, .ref (nd i)), (1, .int (nI x))] := hl
  have hK := hG.kn
  have h_t := hP
  obtain ⟨A, hAe⟩ : ∃ A : Nat → Prop, A = (fun _ => False) := ⟨_, rfl⟩
  rw [← hAe] at B
  have hS : Sx A s s.heap [] := Sx.rf
  generalize ([] : List Loc) = locs at hS ⊢
  have hAn : ∀ q, ¬ A q := fun q h => by rw [hAe] at h; exact h
  have hA0 : ∀ q, A q → w.b0 ≤ q := fun q h => (hAn q h).elim
  have hSl := hS.le
  have ho := (hw i hi).2.2.1 (by omega)
  have hko := (hw (O i) (by omega)).1
  have ht := (hw i hi).2.2.2 (by omega)
  have hkt := (hw (T i) (by omega)).1
  have h_s : va_at w.D clA (nd i, .inr (12, [.ref (nd (O i)), .ref (nd (T i))])) s.heap := h_t.at hi (ndE_2 hki (by decide))
  refine lv_aload_n S.1 S.2.1 dX9_tell_0 rfl (lv_at hl 0 rfl) ?_
  refine x_get S cc_X9 h_s hK (v := .ref (nd (O i))) 0 (by decide) q1103 (fun _ hx => hx) rfl dX9_tell_1 ?_
  refine lv_iload_n S.1 S.2.1 dX9_tell_4 rfl (lv_at hl 1 rfl) ?_
  refine x_tell S (iO) (hko) (by omega) hG q1751 h_t ⟨by show O i + 10 + 1 ≤ i + 10; omega, by show 8 + (2 + 11) + (O i * 40 + 200) ≤ i * 40 + 200; omega⟩ hA0 hl.1 (Nat.le_of_ble_eq_true rfl) dX9_tell_5 ⟨Nat.le_refl 0, Nat.le_refl 0⟩ hS (fun H locs hz hk hS => ?_)
  have hSl := hS.le
  refine lv_aload_n S.1 S.2.1 dX9_tell_10 rfl (lv_at hl 0 rfl) ?_
  refine x_get S cc_X9 (va_at.old h_s hS (hAn _)) hK (v := .ref (nd (T i))) 1 (by decide) q1104 (fun _ hx => hx) rfl dX9_tell_11 ?_
  refine lv_iload_n S.1 S.2.1 dX9_tell_14 rfl (lv_at hl 1 rfl) ?_
  refine x_tell S (iT) (hkt) (by omega) hG q1751 (TP.mono h_t (fun q hq hz => hS.old hz (hAn _))) ⟨by show T i + 10 + 1 ≤ i + 10; omega, by show 8 + (2 + 11) + (T i * 40 + 200) ≤ i * 40 + 200; omega⟩ hA0 hl.1 (Nat.le_of_ble_eq_true rfl) dX9_tell_15 ⟨Nat.le_refl 0, Nat.le_refl 0⟩ hS (fun H locs hz hk hS => ?_)
  have hSl := hS.le
  refine n_ixor S dX9_tell_20 ?_
  have er : ((Bool.toNat (ET K O T x (O i))) ^^^ (Bool.toNat (ET K O T x (T i)))) = Bool.toNat (ET K O T x i) := by rw [et_2 hw hi (by omega), if_neg (by omega), if_neg (by omega)]; cases ET K O T x (O i) <;> cases ET K O T x (T i) <;> rfl
  rw [er]
  exact r_iret S B hS dX9_tell_21 (nar_b _) (Nat.le_refl 0) (Nat.le_refl 0) rfl

theorem tell_all (l : Launch) (w : Wd) {cm : Nat} (nd K O T L : Nat → Nat) (n lim x : Nat) (hw : wfP K O T n cm) (hx : x < 2 ^ 31) (hcm : cm ≤ 8) : ∀ i, i < n → TellC l w nd K O T L n lim x i := by
  intro i
  induction i using Nat.strongRecOn with
  | ind i ih =>
    intro hi
    have hk := (hw i hi).1
    unfold TellC
    rcases (by omega : K i = 0 ∨ K i = 1 ∨ K i = 2 ∨ K i = 3 ∨ K i = 4) with e | e | e | e | e
    · have h := n_X6_tell l w nd K O T L n lim x i hi e hw hx hcm
      rw [e]; exact h
    · have ho := (hw i hi).2.2.1 (by omega)
      have h := n_X5_tell l w nd K O T L n lim x i hi e hw hx hcm (ih _ ho (by omega))
      rw [e]; exact h
    · have ho := (hw i hi).2.2.1 (by omega)
      have ht := (hw i hi).2.2.2 (by omega)
      have h := n_X10_tell l w nd K O T L n lim x i hi e hw hx hcm (ih _ ho (by omega)) (ih _ ht (by omega))
      rw [e]; exact h
    · have ho := (hw i hi).2.2.1 (by omega)
      have ht := (hw i hi).2.2.2 (by omega)
      have h := n_X8_tell l w nd K O T L n lim x i hi e hw hx hcm (ih _ ho (by omega)) (ih _ ht (by omega))
      rw [e]; exact h
    · have ho := (hw i hi).2.2.1 (by omega)
      have ht := (hw i hi).2.2.2 (by omega)
      have h := n_X9_tell l w nd K O T L n lim x i hi e hw hx hcm (ih _ ho (by omega)) (ih _ ht (by omega))
      rw [e]; exact h
