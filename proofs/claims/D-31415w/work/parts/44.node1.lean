set_option maxRecDepth 100000
set_option maxHeartbeats 4000000 in
theorem n_X6_ask (l : Launch) (w : Wd) {cm : Nat} (nd : Nat → Nat) (K : Nat → Nat) (O : Nat → Nat) (T : Nat → Nat) (L : Nat → Nat) (n : Nat) (lim : Nat) (x : Nat) (v : Nat) (t : Int32) (r : Nat) (bs : Nat) (wd : Nat) (i : Nat) (u : Nat) (hi : i < n) (hki : K i = 0) (hw : wfP K O T n cm) (hlb : lim ≤ bs) (hlw : lim ≤ wd) (hx : ∀ c, c < cm → Nat.testBit x c = (v.testBit (L c) != decide (nI c = t))) (hL : ∀ c, c < cm → L c < 4) (hcm : cm ≤ 8) (hv : v < 2 ^ 31) (hb_0 : w.b0 ≤ bs) (hb_1 : w.b0 ≤ wd) : Ctr (GX w) l yX6_ask cX6_ask 2 (some .boolean) (rm_askN i) [.ref (nd i), .ref r] (fun H => TP w nd K O T L n lim H ∧ runP w r bs wd v t u H) (fun _ vR H1 => vR = some (.int (nI (Bool.toNat ((EV K O T x i).1)))) ∧ runP w r bs wd v t (u ||| (EV K O T x i).2) H1) (fun q => q = bs ∨ q = wd) := by
  refine Ctr.mk (by decide +kernel) (Nat.le_of_ble_eq_true rfl) ?_
  intro p e s m a below meth c Q ls S B hin hG hP hl
  have S : CallFix p m c cX6_ask 2 s a lw_all RX6 := S
  have hl : lv_has ls 2 [(0, .ref (nd i)), (1, .ref r)] := hl
  have hK := hG.kn
  obtain ⟨h_t, h_u⟩ := hP
  obtain ⟨A, hAe⟩ : ∃ A : Nat → Prop, A = (fun q => q = bs ∨ q = wd) := ⟨_, rfl⟩
  rw [← hAe] at B
  have hS : Sx A s s.heap [] := Sx.rf
  generalize ([] : List Loc) = locs at hS ⊢
  have hA0 : ∀ q, A q → w.b0 ≤ q := fun q h => by rw [hAe] at h; exact (fun h => h.elim (fun e => by rw [e]; exact hb_0) (fun e => by rw [e]; exact hb_1)) h
  have hA_0 : A bs := Eq.mpr (congrFun hAe _) (Or.inl rfl)
  have hA_1 : A wd := Eq.mpr (congrFun hAe _) (Or.inr (rfl))
  have hSl := hS.le
  have ho := (hw i hi).2.1 hki
  have h_s : va_at w.D clA (nd i, .inr (8, [.int (nI (O i)), .int (nI (L (O i)))])) s.heap := h_t.at hi (ndE_0 hki)
  have hnl := (h_t i hi).1
  have hnb : nd i ≠ bs := by omega
  have hnw : nd i ≠ wd := by omega
  refine lv_aload_n S.1 S.2.1 dX6_ask_0 rfl (lv_at hl 1 rfl) ?_
  refine lv_aload_n S.1 S.2.1 dX6_ask_1 rfl (lv_at hl 0 rfl) ?_
  refine x_get S cc_X6 h_s hK (v := .int (nI (O i))) 0 (by decide) q1007 (fun _ hx => hx) rfl dX6_ask_2 ?_
  refine lv_aload_n S.1 S.2.1 dX6_ask_5 rfl (lv_at hl 0 rfl) ?_
  refine x_get S cc_X6 h_s hK (v := .int (nI (L (O i)))) 1 (by decide) q1008 (fun _ hx => hx) rfl dX6_ask_6 ?_
  refine r_callV S (C := "ConditionWise$Run") (cx_X12_ask l w r bs wd v t u (O i) (L (O i)) (show (O i) < 8 by omega) (hL _ ho) hv hb_0 hb_1) (lw_V q1347 q1348 q1349 q97 q1350) ⟨rfl, by decide +kernel, by decide +kernel, by show _ = some 2; decide +kernel⟩ ⟨by show _ ≤ i + 10; exact Nat.le_trans (Nat.le_of_ble_eq_true rfl) (Nat.le_add_left 10 i), by show _ ≤ i * 40 + 200; exact Nat.le_trans (Nat.le_of_ble_eq_true rfl) (Nat.le_add_left 200 (i * 40))⟩ (runP.rv h_u hK) (GX.blind w) (hG.at hS hA0) h_u hl.1 (rest := []) rfl (Nat.le_of_ble_eq_true rfl) dX6_ask_9 ⟨(Nat.le_refl 0), (Nat.le_refl 0)⟩ hS (fun q => fun h => h.elim (fun e => by rw [e]; exact (Or.inl hA_0)) (fun e => by rw [e]; exact (Or.inl hA_1))) (fun vR H locs hp hz hk hS => ?_)
  obtain ⟨rfl, h_u⟩ := hp
  have hSl := hS.le
  refine W.eq (g2 := F0 m 12 ls [.int (nI (Bool.toNat (v.testBit (L (O i)) != decide (nI (O i) = t))))]) rfl ?_
  have er : (v.testBit (L (O i)) != decide (nI (O i) = t)) = ((EV K O T x i).1) := by rw [ev_0 hki]; exact (hx _ ho).symm
  exact r_iret S B hS dX6_ask_12 (nar_b _) (Nat.le_refl 0) (Nat.le_refl 0) ⟨(congrArg (fun z : Bool => some (Value.int (nI z.toNat))) er), (by rw [ev_0 hki]; exact h_u)⟩

set_option maxHeartbeats 4000000 in
theorem n_X5_ask (l : Launch) (w : Wd) {cm : Nat} (nd : Nat → Nat) (K : Nat → Nat) (O : Nat → Nat) (T : Nat → Nat) (L : Nat → Nat) (n : Nat) (lim : Nat) (x : Nat) (v : Nat) (t : Int32) (r : Nat) (bs : Nat) (wd : Nat) (i : Nat) (u : Nat) (hi : i < n) (hki : K i = 1) (hw : wfP K O T n cm) (hlb : lim ≤ bs) (hlw : lim ≤ wd) (iO : AskC l w nd K O T L n lim x v t r bs wd (O i)) (hb_0 : w.b0 ≤ bs) (hb_1 : w.b0 ≤ wd) : Ctr (GX w) l yX5_ask cX5_ask 2 (some .boolean) (rm_askN i) [.ref (nd i), .ref r] (fun H => TP w nd K O T L n lim H ∧ runP w r bs wd v t u H) (fun _ vR H1 => vR = some (.int (nI (Bool.toNat ((EV K O T x i).1)))) ∧ runP w r bs wd v t (u ||| (EV K O T x i).2) H1) (fun q => q = bs ∨ q = wd) := by
  refine Ctr.mk (by decide +kernel) (Nat.le_of_ble_eq_true rfl) ?_
  intro p e s m a below meth c Q ls S B hin hG hP hl
  have S : CallFix p m c cX5_ask 2 s a lw_all RX5 := S
  have hl : lv_has ls 2 [(0, .ref (nd i)), (1, .ref r)] := hl
  have hK := hG.kn
  obtain ⟨h_t, h_u⟩ := hP
  obtain ⟨A, hAe⟩ : ∃ A : Nat → Prop, A = (fun q => q = bs ∨ q = wd) := ⟨_, rfl⟩
  rw [← hAe] at B
  have hS : Sx A s s.heap [] := Sx.rf
  generalize ([] : List Loc) = locs at hS ⊢
  have hA0 : ∀ q, A q → w.b0 ≤ q := fun q h => by rw [hAe] at h; exact (fun h => h.elim (fun e => by rw [e]; exact hb_0) (fun e => by rw [e]; exact hb_1)) h
  have hA_0 : A bs := Eq.mpr (congrFun hAe _) (Or.inl rfl)
  have hA_1 : A wd := Eq.mpr (congrFun hAe _) (Or.inr (rfl))
  have hSl := hS.le
  have ho := (hw i hi).2.2.1 (by omega)
  have hko := (hw (O i) (by omega)).1
  have h_s : va_at w.D clA (nd i, .inr (9, [.ref (nd (O i))])) s.heap := h_t.at hi (ndE_1 hki)
  have hnl := (h_t i hi).1
  have hnb : nd i ≠ bs := by omega
  have hnw : nd i ≠ wd := by omega
  refine lv_aload_n S.1 S.2.1 dX5_ask_0 rfl (lv_at hl 0 rfl) ?_
  refine x_get S cc_X5 h_s hK (v := .ref (nd (O i))) 0 (by decide) q935 (fun _ hx => hx) rfl dX5_ask_1 ?_
  refine lv_aload_n S.1 S.2.1 dX5_ask_4 rfl (lv_at hl 1 rfl) ?_
  refine x_ask S (iO) (u := u) (hko) (by omega) hG q1392 h_t h_u ⟨by show O i + 10 + 1 ≤ i + 10; omega, by show 8 + (2 + 11) + (O i * 40 + 200) ≤ i * 40 + 200; omega⟩ hA0 hl.1 (Nat.le_of_ble_eq_true rfl) dX5_ask_5 ⟨Nat.le_refl 0, Nat.le_refl 0⟩ hS (fun q h => h.elim (fun e => by rw [e]; exact (Or.inl hA_0)) (fun e => by rw [e]; exact (Or.inl hA_1))) (fun H locs h_u hz hk hS => ?_)
  have hSl := hS.le
  suffices j_2 : W p l e (rm_askN i) s m a below meth c H locs 0 0 Q (F0 m 18 ls [.int (nI (Bool.toNat (!((EV K O T x (O i)).1))))]) by
    refine b_if_ne (tgt := 17) S dX5_ask_10 (by decide) (fun h_1 => ?_) (fun h_1 => ?_)
    · skip
      refine lv_iconst (v := (nI 0)) S.1 S.2.1 dX5_ask_17 (by decide) ?_
      refine W.eq ?_ j_2
      first | (simp only [h_1, eq_self, decide_true, decide_false, if_true, if_false, reduceIte, Bool.not_true, Bool.not_false, Bool.true_and, Bool.false_and, Bool.and_true, Bool.and_false, Bool.true_or, Bool.false_or, Bool.or_true, Bool.or_false, Bool.toNat_true, Bool.toNat_false, Bool.false_eq_true, Bool.true_eq_false, not_true_eq_false, not_false_eq_true]; done) | (simp [h_1]; done)
    · skip
      refine lv_iconst (v := (nI 1)) S.1 S.2.1 dX5_ask_13 (by decide) ?_
      refine lv_goto (tgt := 18) S.1 S.2.1 dX5_ask_14 (by decide) ?_
      refine W.eq ?_ j_2
      first | (simp only [h_1, eq_self, decide_true, decide_false, if_true, if_false, reduceIte, Bool.not_true, Bool.not_false, Bool.true_and, Bool.false_and, Bool.and_true, Bool.and_false, Bool.true_or, Bool.false_or, Bool.or_true, Bool.or_false, Bool.toNat_true, Bool.toNat_false, Bool.false_eq_true, Bool.true_eq_false, not_true_eq_false, not_false_eq_true]; done) | (simp [h_1]; done)
  have er : (!((EV K O T x (O i)).1)) = ((EV K O T x i).1) := by rw [ev_1 hw hi hki]
  exact r_iret S B hS dX5_ask_18 (nar_b _) (Nat.le_refl 0) (Nat.le_refl 0) ⟨(congrArg (fun z : Bool => some (Value.int (nI z.toNat))) er), (by rw [ev_1 hw hi hki]; exact h_u)⟩

set_option maxHeartbeats 4000000 in
theorem n_X10_ask (l : Launch) (w : Wd) {cm : Nat} (nd : Nat → Nat) (K : Nat → Nat) (O : Nat → Nat) (T : Nat → Nat) (L : Nat → Nat) (n : Nat) (lim : Nat) (x : Nat) (v : Nat) (t : Int32) (r : Nat) (bs : Nat) (wd : Nat) (i : Nat) (u : Nat) (hi : i < n) (hki : K i = 2) (hw : wfP K O T n cm) (hlb : lim ≤ bs) (hlw : lim ≤ wd) (iO : AskC l w nd K O T L n lim x v t r bs wd (O i)) (iT : AskC l w nd K O T L n lim x v t r bs wd (T i)) (hb_0 : w.b0 ≤ bs) (hb_1 : w.b0 ≤ wd) : Ctr (GX w) l yX10_ask cX10_ask 2 (some .boolean) (rm_askN i) [.ref (nd i), .ref r] (fun H => TP w nd K O T L n lim H ∧ runP w r bs wd v t u H) (fun _ vR H1 => vR = some (.int (nI (Bool.toNat ((EV K O T x i).1)))) ∧ runP w r bs wd v t (u ||| (EV K O T x i).2) H1) (fun q => q = bs ∨ q = wd) := by
  refine Ctr.mk (by decide +kernel) (Nat.le_of_ble_eq_true rfl) ?_
  intro p e s m a below meth c Q ls S B hin hG hP hl
  have S : CallFix p m c cX10_ask 2 s a lw_all RX10 := S
  have hl : lv_has ls 2 [(0, .ref (nd i)), (1, .ref r)] := hl
  have hK := hG.kn
  obtain ⟨h_t, h_u⟩ := hP
  obtain ⟨A, hAe⟩ : ∃ A : Nat → Prop, A = (fun q => q = bs ∨ q = wd) := ⟨_, rfl⟩
  rw [← hAe] at B
  have hS : Sx A s s.heap [] := Sx.rf
  generalize ([] : List Loc) = locs at hS ⊢
  have hA0 : ∀ q, A q → w.b0 ≤ q := fun q h => by rw [hAe] at h; exact (fun h => h.elim (fun e => by rw [e]; exact hb_0) (fun e => by rw [e]; exact hb_1)) h
  have hA_0 : A bs := Eq.mpr (congrFun hAe _) (Or.inl rfl)
  have hA_1 : A wd := Eq.mpr (congrFun hAe _) (Or.inr (rfl))
  have hSl := hS.le
  have ho := (hw i hi).2.2.1 (by omega)
  have hko := (hw (O i) (by omega)).1
  have ht := (hw i hi).2.2.2 (by omega)
  have hkt := (hw (T i) (by omega)).1
  have h_s : va_at w.D clA (nd i, .inr (10, [.ref (nd (O i)), .ref (nd (T i))])) s.heap := h_t.at hi (ndE_2 hki (by decide))
  have hnl := (h_t i hi).1
  have hnb : nd i ≠ bs := by omega
  have hnw : nd i ≠ wd := by omega
  refine lv_aload_n S.1 S.2.1 dX10_ask_0 rfl (lv_at hl 0 rfl) ?_
  refine x_get S cc_X10 h_s hK (v := .ref (nd (O i))) 0 (by decide) q1116 (fun _ hx => hx) rfl dX10_ask_1 ?_
  refine lv_aload_n S.1 S.2.1 dX10_ask_4 rfl (lv_at hl 1 rfl) ?_
  refine x_ask S (iO) (u := u) (hko) (by omega) hG q1341 h_t h_u ⟨by show O i + 10 + 1 ≤ i + 10; omega, by show 8 + (2 + 11) + (O i * 40 + 200) ≤ i * 40 + 200; omega⟩ hA0 hl.1 (Nat.le_of_ble_eq_true rfl) dX10_ask_5 ⟨Nat.le_refl 0, Nat.le_refl 0⟩ hS (fun q h => h.elim (fun e => by rw [e]; exact (Or.inl hA_0)) (fun e => by rw [e]; exact (Or.inl hA_1))) (fun H locs h_u hz hk hS => ?_)
  have hSl := hS.le
  refine b_if_eq (tgt := 30) S dX10_ask_10 (by decide) (fun h_1 => ?_) (fun h_1 => ?_)
  · skip
    refine lv_iconst (v := (nI 0)) S.1 S.2.1 dX10_ask_30 (by decide) ?_
    have er : (false) = ((EV K O T x i).1) := by rw [ev_2 hw hi (by omega), if_pos (Or.inl ⟨hki, h_1⟩)]; exact h_1.symm
    exact r_iret S B hS dX10_ask_31 (by decide) (Nat.le_refl 0) (Nat.le_refl 0) ⟨(congrArg (fun z : Bool => some (Value.int (nI z.toNat))) er), (by rw [ev_2 hw hi (by omega), if_pos (Or.inl ⟨hki, h_1⟩)]; exact h_u)⟩
  · skip
    refine lv_aload_n S.1 S.2.1 dX10_ask_13 rfl (lv_at hl 0 rfl) ?_
    refine x_get S cc_X10 (va_at.old h_s hS (fun h => by rw [hAe] at h; exact (fun h0 => h0.elim (fun e0 => hnb e0) (fun e1 => hnw e1)) h)) hK (v := .ref (nd (T i))) 1 (by decide) q1117 (fun _ hx => hx) rfl dX10_ask_14 ?_
    refine lv_aload_n S.1 S.2.1 dX10_ask_17 rfl (lv_at hl 1 rfl) ?_
    refine x_ask S (iT) (u := (u ||| (EV K O T x (O i)).2)) (hkt) (by omega) hG q1341 (TP.mono h_t (fun q hq hz => hS.old hz (fun h => by rw [hAe] at h; rcases h with rfl | rfl <;> omega))) h_u ⟨by show T i + 10 + 1 ≤ i + 10; omega, by show 8 + (2 + 11) + (T i * 40 + 200) ≤ i * 40 + 200; omega⟩ hA0 hl.1 (Nat.le_of_ble_eq_true rfl) dX10_ask_18 ⟨Nat.le_refl 0, Nat.le_refl 0⟩ hS (fun q h => h.elim (fun e => by rw [e]; exact (Or.inl hA_0)) (fun e => by rw [e]; exact (Or.inl hA_1))) (fun H locs h_u hz hk hS => ?_)
    have hSl := hS.le
    suffices j_3 : W p l e (rm_askN i) s m a below meth c H locs 0 0 Q (F0 m 31 ls [.int (nI (Bool.toNat ((EV K O T x (T i)).1)))]) by
      refine b_if_eq (tgt := 30) S dX10_ask_23 (by decide) (fun h_2 => ?_) (fun h_2 => ?_)
      · skip
        refine lv_iconst (v := (nI 0)) S.1 S.2.1 dX10_ask_30 (by decide) ?_
        refine W.eq ?_ j_3
        first | (simp only [h_2, eq_self, decide_true, decide_false, if_true, if_false, reduceIte, Bool.not_true, Bool.not_false, Bool.true_and, Bool.false_and, Bool.and_true, Bool.and_false, Bool.true_or, Bool.false_or, Bool.or_true, Bool.or_false, Bool.toNat_true, Bool.toNat_false, Bool.false_eq_true, Bool.true_eq_false, not_true_eq_false, not_false_eq_true]; done) | (simp [h_2]; done)
      · skip
        refine lv_iconst (v := (nI 1)) S.1 S.2.1 dX10_ask_26 (by decide) ?_
        refine lv_goto (tgt := 31) S.1 S.2.1 dX10_ask_27 (by decide) ?_
        refine W.eq ?_ j_3
        first | (simp only [h_2, eq_self, decide_true, decide_false, if_true, if_false, reduceIte, Bool.not_true, Bool.not_false, Bool.true_and, Bool.false_and, Bool.and_true, Bool.and_false, Bool.true_or, Bool.false_or, Bool.or_true, Bool.or_false, Bool.toNat_true, Bool.toNat_false, Bool.false_eq_true, Bool.true_eq_false, not_true_eq_false, not_false_eq_true]; done) | (simp [h_2]; done)
    have er : ((EV K O T x (T i)).1) = ((EV K O T x i).1) := by rw [ev_2 hw hi (by omega), if_neg (by rintro (⟨z1, z2⟩ | ⟨z1, z2⟩) <;> first | omega | (rw [h_1] at z2; cases z2)), if_neg (by omega)]
    exact r_iret S B hS dX10_ask_31 (nar_b _) (Nat.le_refl 0) (Nat.le_refl 0) ⟨(congrArg (fun z : Bool => some (Value.int (nI z.toNat))) er), (by rw [ev_2 hw hi (by omega), if_neg (by rintro (⟨z1, z2⟩ | ⟨z1, z2⟩) <;> first | omega | (rw [h_1] at z2; cases z2))]; rw [Nat.or_assoc] at h_u; exact h_u)⟩

set_option maxHeartbeats 4000000 in
theorem n_X8_ask (l : Launch) (w : Wd) {cm : Nat} (nd : Nat → Nat) (K : Nat → Nat) (O : Nat → Nat) (T : Nat → Nat) (L : Nat → Nat) (n : Nat) (lim : Nat) (x : Nat) (v : Nat) (t : Int32) (r : Nat) (bs : Nat) (wd : Nat) (i : Nat) (u : Nat) (hi : i < n) (hki : K i = 3) (hw : wfP K O T n cm) (hlb : lim ≤ bs) (hlw : lim ≤ wd) (iO : AskC l w nd K O T L n lim x v t r bs wd (O i)) (iT : AskC l w nd K O T L n lim x v t r bs wd (T i)) (hb_0 : w.b0 ≤ bs) (hb_1 : w.b0 ≤ wd) : Ctr (GX w) l yX8_ask cX8_ask 2 (some .boolean) (rm_askN i) [.ref (nd i), .ref r] (fun H => TP w nd K O T L n lim H ∧ runP w r bs wd v t u H) (fun _ vR H1 => vR = some (.int (nI (Bool.toNat ((EV K O T x i).1)))) ∧ runP w r bs wd v t (u ||| (EV K O T x i).2) H1) (fun q => q = bs ∨ q = wd) := by
  refine Ctr.mk (by decide +kernel) (Nat.le_of_ble_eq_true rfl) ?_
  intro p e s m a below meth c Q ls S B hin hG hP hl
  have S : CallFix p m c cX8_ask 2 s a lw_all RX8 := S
  have hl : lv_has ls 2 [(0, .ref (nd i)), (1, .ref r)] := hl
  have hK := hG.kn
  obtain ⟨h_t, h_u⟩ := hP
  obtain ⟨A, hAe⟩ : ∃ A : Nat → Prop, A = (fun q => q = bs ∨ q = wd) := ⟨_, rfl⟩
  rw [← hAe] at B
  have hS : Sx A s s.heap [] := Sx.rf
  generalize ([] : List Loc) = locs at hS ⊢
  have hA0 : ∀ q, A q → w.b0 ≤ q := fun q h => by rw [hAe] at h; exact (fun h => h.elim (fun e => by rw [e]; exact hb_0) (fun e => by rw [e]; exact hb_1)) h
  have hA_0 : A bs := Eq.mpr (congrFun hAe _) (Or.inl rfl)
  have hA_1 : A wd := Eq.mpr (congrFun hAe _) (Or.inr (rfl))
  have hSl := hS.le
  have ho := (hw i hi).2.2.1 (by omega)
  have hko := (hw (O i) (by omega)).1
  have ht := (hw i hi).2.2.2 (by omega)
  have hkt := (hw (T i) (by omega)).1
  have h_s : va_at w.D clA (nd i, .inr (11, [.ref (nd (O i)), .ref (nd (T i))])) s.heap := h_t.at hi (ndE_2 hki (by decide))
  have hnl := (h_t i hi).1
  have hnb : nd i ≠ bs := by omega
  have hnw : nd i ≠ wd := by omega
  refine lv_aload_n S.1 S.2.1 dX8_ask_0 rfl (lv_at hl 0 rfl) ?_
  refine x_get S cc_X8 h_s hK (v := .ref (nd (O i))) 0 (by decide) q1090 (fun _ hx => hx) rfl dX8_ask_1 ?_
  refine lv_aload_n S.1 S.2.1 dX8_ask_4 rfl (lv_at hl 1 rfl) ?_
  refine x_ask S (iO) (u := u) (hko) (by omega) hG q1399 h_t h_u ⟨by show O i + 10 + 1 ≤ i + 10; omega, by show 8 + (2 + 11) + (O i * 40 + 200) ≤ i * 40 + 200; omega⟩ hA0 hl.1 (Nat.le_of_ble_eq_true rfl) dX8_ask_5 ⟨Nat.le_refl 0, Nat.le_refl 0⟩ hS (fun q h => h.elim (fun e => by rw [e]; exact (Or.inl hA_0)) (fun e => by rw [e]; exact (Or.inl hA_1))) (fun H locs h_u hz hk hS => ?_)
  have hSl := hS.le
  refine b_if_ne (tgt := 26) S dX8_ask_10 (by decide) (fun h_1 => ?_) (fun h_1 => ?_)
  · skip
    refine lv_iconst (v := (nI 1)) S.1 S.2.1 dX8_ask_26 (by decide) ?_
    refine lv_goto (tgt := 31) S.1 S.2.1 dX8_ask_27 (by decide) ?_
    have er : (true) = ((EV K O T x i).1) := by rw [ev_2 hw hi (by omega), if_pos (Or.inr ⟨hki, h_1⟩)]; exact h_1.symm
    exact r_iret S B hS dX8_ask_31 (by decide) (Nat.le_refl 0) (Nat.le_refl 0) ⟨(congrArg (fun z : Bool => some (Value.int (nI z.toNat))) er), (by rw [ev_2 hw hi (by omega), if_pos (Or.inr ⟨hki, h_1⟩)]; exact h_u)⟩
  · skip
    refine lv_aload_n S.1 S.2.1 dX8_ask_13 rfl (lv_at hl 0 rfl) ?_
    refine x_get S cc_X8 (va_at.old h_s hS (fun h => by rw [hAe] at h; exact (fun h0 => h0.elim (fun e0 => hnb e0) (fun e1 => hnw e1)) h)) hK (v := .ref (nd (T i))) 1 (by decide) q1091 (fun _ hx => hx) rfl dX8_ask_14 ?_
    refine lv_aload_n S.1 S.2.1 dX8_ask_17 rfl (lv_at hl 1 rfl) ?_
    refine x_ask S (iT) (u := (u ||| (EV K O T x (O i)).2)) (hkt) (by omega) hG q1399 (TP.mono h_t (fun q hq hz => hS.old hz (fun h => by rw [hAe] at h; rcases h with rfl | rfl <;> omega))) h_u ⟨by show T i + 10 + 1 ≤ i + 10; omega, by show 8 + (2 + 11) + (T i * 40 + 200) ≤ i * 40 + 200; omega⟩ hA0 hl.1 (Nat.le_of_ble_eq_true rfl) dX8_ask_18 ⟨Nat.le_refl 0, Nat.le_refl 0⟩ hS (fun q h => h.elim (fun e => by rw [e]; exact (Or.inl hA_0)) (fun e => by rw [e]; exact (Or.inl hA_1))) (fun H locs h_u hz hk hS => ?_)
    have hSl := hS.le
    suffices j_3 : W p l e (rm_askN i) s m a below meth c H locs 0 0 Q (F0 m 31 ls [.int (nI (Bool.toNat ((EV K O T x (T i)).1)))]) by
      refine b_if_eq (tgt := 30) S dX8_ask_23 (by decide) (fun h_2 => ?_) (fun h_2 => ?_)
      · skip
        refine lv_iconst (v := (nI 0)) S.1 S.2.1 dX8_ask_30 (by decide) ?_
        refine W.eq ?_ j_3
        first | (simp only [h_2, eq_self, decide_true, decide_false, if_true, if_false, reduceIte, Bool.not_true, Bool.not_false, Bool.true_and, Bool.false_and, Bool.and_true, Bool.and_false, Bool.true_or, Bool.false_or, Bool.or_true, Bool.or_false, Bool.toNat_true, Bool.toNat_false, Bool.false_eq_true, Bool.true_eq_false, not_true_eq_false, not_false_eq_true]; done) | (simp [h_2]; done)
      · skip
        refine lv_iconst (v := (nI 1)) S.1 S.2.1 dX8_ask_26 (by decide) ?_
        refine lv_goto (tgt := 31) S.1 S.2.1 dX8_ask_27 (by decide) ?_
        refine W.eq ?_ j_3
        first | (simp only [h_2, eq_self, decide_true, decide_false, if_true, if_false, reduceIte, Bool.not_true, Bool.not_false, Bool.true_and, Bool.false_and, Bool.and_true, Bool.and_false, Bool.true_or, Bool.false_or, Bool.or_true, Bool.or_false, Bool.toNat_true, Bool.toNat_false, Bool.false_eq_true, Bool.true_eq_false, not_true_eq_false, not_false_eq_true]; done) | (simp [h_2]; done)
    have er : ((EV K O T x (T i)).1) = ((EV K O T x i).1) := by rw [ev_2 hw hi (by omega), if_neg (by rintro (⟨z1, z2⟩ | ⟨z1, z2⟩) <;> first | omega | (rw [h_1] at z2; cases z2)), if_neg (by omega)]
    exact r_iret S B hS dX8_ask_31 (nar_b _) (Nat.le_refl 0) (Nat.le_refl 0) ⟨(congrArg (fun z : Bool => some (Value.int (nI z.toNat))) er), (by rw [ev_2 hw hi (by omega), if_neg (by rintro (⟨z1, z2⟩ | ⟨z1, z2⟩) <;> first | omega | (rw [h_1] at z2; cases z2))]; rw [Nat.or_assoc] at h_u; exact h_u)⟩

set_option maxHeartbeats 4000000 in
theorem n_X9_ask (l : Launch) (w : Wd) {cm : Nat} (nd : Nat → Nat) (K : Nat → Nat) (O : Nat → Nat) (T : Nat → Nat) (L : Nat → Nat) (n : Nat) (lim : Nat) (x : Nat) (v : Nat) (t : Int32) (r : Nat) (bs : Nat) (wd : Nat) (i : Nat) (u : Nat) (hi : i < n) (hki : K i = 4) (hw : wfP K O T n cm) (hlb : lim ≤ bs) (hlw : lim ≤ wd) (iO : AskC l w nd K O T L n lim x v t r bs wd (O i)) (iT : AskC l w nd K O T L n lim x v t r bs wd (T i)) (hb_0 : w.b0 ≤ bs) (hb_1 : w.b0 ≤ wd) : Ctr (GX w) l yX9_ask cX9_ask 2 (some .boolean) (rm_askN i) [.ref (nd i), .ref r] (fun H => TP w nd K O T L n lim H ∧ runP w r bs wd v t u H) (fun _ vR H1 => vR = some (.int (nI (Bool.toNat ((EV K O T x i).1)))) ∧ runP w r bs wd v t (u ||| (EV K O T x i).2) H1) (fun q => q = bs ∨ q = wd) := by
  refine Ctr.mk (by decide +kernel) (Nat.le_of_ble_eq_true rfl) ?_
  intro p e s m a below meth c Q ls S B hin hG hP hl
  have S : CallFix p m c cX9_ask 2 s a lw_all RX9 := S
  have hl : lv_has ls 2 [(0, .ref (nd i)), (1, .ref r)] := hl
  have hK := hG.kn
  obtain ⟨h_t, h_u⟩ := hP
  obtain ⟨A, hAe⟩ : ∃ A : Nat → Prop, A = (fun q => q = bs ∨ q = wd) := ⟨_, rfl⟩
  rw [← hAe] at B
  have hS : Sx A s s.heap [] := Sx.rf
  generalize ([] : List Loc) = locs at hS ⊢
  have hA0 : ∀ q, A q → w.b0 ≤ q := fun q h => by rw [hAe] at h; exact (fun h => h.elim (fun e => by rw [e]; exact hb_0) (fun e => by rw [e]; exact hb_1)) h
  have hA_0 : A bs := Eq.mpr (congrFun hAe _) (Or.inl rfl)
  have hA_1 : A wd := Eq.mpr (congrFun hAe _) (Or.inr (rfl))
  have hSl := hS.le
  have ho := (hw i hi).2.2.1 (by omega)
  have hko := (hw (O i) (by omega)).1
  have ht := (hw i hi).2.2.2 (by omega)
  have hkt := (hw (T i) (by omega)).1
  have h_s : va_at w.D clA (nd i, .inr (12, [.ref (nd (O i)), .ref (nd (T i))])) s.heap := h_t.at hi (ndE_2 hki (by decide))
  have hnl := (h_t i hi).1
  have hnb : nd i ≠ bs := by omega
  have hnw : nd i ≠ wd := by omega
  refine lv_aload_n S.1 S.2.1 dX9_ask_0 rfl (lv_at hl 0 rfl) ?_
  refine x_get S cc_X9 h_s hK (v := .ref (nd (O i))) 0 (by decide) q1103 (fun _ hx => hx) rfl dX9_ask_1 ?_
  refine lv_aload_n S.1 S.2.1 dX9_ask_4 rfl (lv_at hl 1 rfl) ?_
  refine x_ask S (iO) (u := u) (hko) (by omega) hG q1406 h_t h_u ⟨by show O i + 10 + 1 ≤ i + 10; omega, by show 8 + (2 + 11) + (O i * 40 + 200) ≤ i * 40 + 200; omega⟩ hA0 hl.1 (Nat.le_of_ble_eq_true rfl) dX9_ask_5 ⟨Nat.le_refl 0, Nat.le_refl 0⟩ hS (fun q h => h.elim (fun e => by rw [e]; exact (Or.inl hA_0)) (fun e => by rw [e]; exact (Or.inl hA_1))) (fun H locs h_u hz hk hS => ?_)
  have hSl := hS.le
  refine lv_aload_n S.1 S.2.1 dX9_ask_10 rfl (lv_at hl 0 rfl) ?_
  refine x_get S cc_X9 (va_at.old h_s hS (fun h => by rw [hAe] at h; exact (fun h0 => h0.elim (fun e0 => hnb e0) (fun e1 => hnw e1)) h)) hK (v := .ref (nd (T i))) 1 (by decide) q1104 (fun _ hx => hx) rfl dX9_ask_11 ?_
  refine lv_aload_n S.1 S.2.1 dX9_ask_14 rfl (lv_at hl 1 rfl) ?_
  refine x_ask S (iT) (u := (u ||| (EV K O T x (O i)).2)) (hkt) (by omega) hG q1406 (TP.mono h_t (fun q hq hz => hS.old hz (fun h => by rw [hAe] at h; rcases h with rfl | rfl <;> omega))) h_u ⟨by show T i + 10 + 1 ≤ i + 10; omega, by show 8 + (2 + 11) + (T i * 40 + 200) ≤ i * 40 + 200; omega⟩ hA0 hl.1 (Nat.le_of_ble_eq_true rfl) dX9_ask_15 ⟨Nat.le_refl 0, Nat.le_refl 0⟩ hS (fun q h => h.elim (fun e => by rw [e]; exact (Or.inl hA_0)) (fun e => by rw [e]; exact (Or.inl hA_1))) (fun H locs h_u hz hk hS => ?_)
  have hSl := hS.le
  suffices j_2 : W p l e (rm_askN i) s m a below meth c H locs 0 0 Q (F0 m 28 ls [.int (nI (Bool.toNat (!(decide (((EV K O T x (O i)).1) = ((EV K O T x (T i)).1))))))]) by
    refine b_icmp_eq (tgt := 27) S dX9_ask_20 (by decide) (fun h_1 => ?_) (fun h_1 => ?_)
    · skip
      refine lv_iconst (v := (nI 0)) S.1 S.2.1 dX9_ask_27 (by decide) ?_
      refine W.eq ?_ j_2
      first | (simp only [h_1, eq_self, decide_true, decide_false, if_true, if_false, reduceIte, Bool.not_true, Bool.not_false, Bool.true_and, Bool.false_and, Bool.and_true, Bool.and_false, Bool.true_or, Bool.false_or, Bool.or_true, Bool.or_false, Bool.toNat_true, Bool.toNat_false, Bool.false_eq_true, Bool.true_eq_false, not_true_eq_false, not_false_eq_true]; done) | (simp [h_1]; done)
    · skip
      refine lv_iconst (v := (nI 1)) S.1 S.2.1 dX9_ask_23 (by decide) ?_
      refine lv_goto (tgt := 28) S.1 S.2.1 dX9_ask_24 (by decide) ?_
      refine W.eq ?_ j_2
      first | (simp only [h_1, eq_self, decide_true, decide_false, if_true, if_false, reduceIte, Bool.not_true, Bool.not_false, Bool.true_and, Bool.false_and, Bool.and_true, Bool.and_false, Bool.true_or, Bool.false_or, Bool.or_true, Bool.or_false, Bool.toNat_true, Bool.toNat_false, Bool.false_eq_true, Bool.true_eq_false, not_true_eq_false, not_false_eq_true]; done) | (simp [h_1]; done)
  have er : (!(decide (((EV K O T x (O i)).1) = ((EV K O T x (T i)).1)))) = ((EV K O T x i).1) := by rw [ev_2 hw hi (by omega), if_neg (by rw [hki]; simp)]; rw [if_pos hki]
  exact r_iret S B hS dX9_ask_28 (nar_b _) (Nat.le_refl 0) (Nat.le_refl 0) ⟨(congrArg (fun z : Bool => some (Value.int (nI z.toNat))) er), (by rw [ev_2 hw hi (by omega), if_neg (by rw [hki]; simp)]; rw [Nat.or_assoc] at h_u; exact h_u)⟩
