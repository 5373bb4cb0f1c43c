set_option maxRecDepth 100000
theorem runP.mono {w : Wd} {r bs wd v x : Nat} {t : Int32} {H H1 : Heap} (h : runP w r bs wd v t x H) (h0 : H1[r]? = H[r]?) (h1 : H1[bs]? = H[bs]?) (h2 : H1[wd]? = H[wd]?) : runP w r bs wd v t x H1 := ⟨h.1.kept h0, h.2.1.mono h1 h2, h.2.2⟩
theorem runP.lt {w : Wd} {r bs wd v x : Nat} {t : Int32} {H : Heap} (h : runP w r bs wd v t x H) : r < H.size ∧ bs < H.size ∧ wd < H.size := ⟨h.1.lt, h.2.1.lt⟩
theorem bsP.rv {w : Wd} {bs wd x : Nat} {H : Heap} {s : State} (h : bsP w bs wd x H) (hK : Kn w.D w.dA s) : ∃ cell : Cell, H[bs]? = some cell ∧ cell.vm.isStatics = false ∧ s.vm.findClass RJ28 = some cell.cls := by
  obtain ⟨u, f, a, -⟩ := h
  exact r_recv a hK (q := (RJ28, TJ28, 3)) rfl
theorem runP.rv {w : Wd} {r bs wd v x : Nat} {t : Int32} {H : Heap} {s : State} (h : runP w r bs wd v t x H) (hK : Kn w.D w.dA s) : ∃ cell : Cell, H[r]? = some cell ∧ cell.vm.isStatics = false ∧ s.vm.findClass RX12 = some cell.cls := r_recv h.1 hK (q := (RX12, TX12, 3)) rfl
abbrev rm_X12_init_2 : Room := { frames := 3, cells := 2, slots := 4, locals := 62 }
set_option maxHeartbeats 4000000 in
theorem cx_X12_init_2 (l : Launch) (w : Wd) (r : Nat) (v : Nat) (t : Int32) (hb_0 : w.b0 ≤ r) : Ctr (GX w) l yX12_init_2 cX12_init_2 3 none rm_X12_init_2 [.ref r, .int (nI v), .int t] (fun H => va_at w.D clA (r, .inr (13, [.int (nI 0), .int (nI 0), .null])) H) (fun H vR H1 => ∃ (bs : Nat) (wd : Nat), vR = none ∧ H.size ≤ bs ∧ H.size ≤ wd ∧ bs ≠ wd ∧ runP w r bs wd v t 0 H1) (fun q => q = r) := by
  refine Ctr.mk (by decide +kernel) (Nat.le_of_ble_eq_true rfl) ?_
  intro p e s m a below meth c Q ls S B hin hG hP hl
  have S : CallFix p m c cX12_init_2 3 s a lw_all RX12 := S
  have hl : lv_has ls 3 [(0, .ref r), (1, .int (nI v)), (2, .int t)] := hl
  have hK := hG.kn
  have h_r := hP
  obtain ⟨A, hAe⟩ : ∃ A : Nat → Prop, A = (fun q => q = r) := ⟨_, rfl⟩
  rw [← hAe] at B
  have hS : Sx A s s.heap [] := Sx.rf
  generalize ([] : List Loc) = locs at hS ⊢
  have hA0 : ∀ q, A q → w.b0 ≤ q := fun q h => by rw [hAe] at h; exact (fun e => by rw [e]; exact hb_0) h
  have hA_0 : A r := Eq.mpr (congrFun hAe _) (rfl)
  have hSl := hS.le
  refine lv_aload_n S.1 S.2.1 dX12_init_2_0 rfl (lv_at hl 0 rfl) ?_
  refine W.objInit S.1 S.2.1 S.2.2.2.1 (S.2.2.2.2 _ q1295) (S.2.2.2.2 _ q109) (S.2.2.2.2 _ q110) rfl (by show ls.size = _; rw [hl.1, S.2.2.1]) rfl dX12_init_2_1 (Nat.le_of_ble_eq_true rfl) (Nat.le_of_ble_eq_true rfl) ?_
  refine W.eq (g2 := F0 m 4 ls []) rfl ?_
  refine lv_aload_n S.1 S.2.1 dX12_init_2_4 rfl (lv_at hl 0 rfl) ?_
  refine x_new S cc_J28 (fs := [.null, .int (nI 0), .int (nI (Bool.toNat false))]) hK q1296 q1297 q98 (by decide +kernel) (Nat.le_of_ble_eq_true rfl) (Nat.le_of_ble_eq_true rfl) dX12_init_2_5 hS (fun bs H h_bs hn hz ho hS => ?_)
  have le_bs : s.heap.size ≤ bs := hn
  have ne_1 : r ≠ bs := at_nw h_r hn
  have h_r : va_at w.D clA (r, .inr (13, [.int (nI 0), .int (nI 0), .null])) H := va_at.kept h_r (ho _ (at_lt h_r))
  have hSl := hS.le
  refine lv_dup S.1 S.2.1 dX12_init_2_8 rfl ?_
  refine lv_bipush (v := (nI 8)) S.1 S.2.1 dX12_init_2_9 (by decide) ?_
  refine r_callI S (cx_J28_init l w bs (Nat.le_trans hG.sz le_bs)) (lw_meth q1300) q98 q1298 q1299 rfl ⟨by decide +kernel, by decide +kernel, by show _ = some 1; decide +kernel⟩ ⟨Nat.le_of_ble_eq_true rfl, Nat.le_of_ble_eq_true rfl⟩ (GX.blind w) (hG.at hS hA0) h_bs hl.1 (rest := [.ref bs, .ref r]) rfl (Nat.le_of_ble_eq_true rfl) dX12_init_2_11 ⟨(Nat.le_of_ble_eq_true rfl), (Nat.le_of_ble_eq_true rfl)⟩ hS (fun q => fun e => by rw [e]; exact (Or.inr le_bs)) (fun vR H locs hp hz hk hS => ?_)
  have hl_h_bs := at_lt h_bs
  obtain ⟨wd_2, rfl, hn_wd_2, h_b_3⟩ := hp
  have le_wd_2 : s.heap.size ≤ wd_2 := Nat.le_trans hSl hn_wd_2
  have ne_4 : r ≠ wd_2 := at_nw h_r hn_wd_2
  have ne_5 : bs ≠ wd_2 := fun e => by have := hl_h_bs; omega
  have h_r : va_at w.D clA (r, .inr (13, [.int (nI 0), .int (nI 0), .null])) H := kept_of h_r hk (fun e => ne_1 e)
  have hSl := hS.le
  refine W.eq (g2 := F0 m 14 ls [.ref bs, .ref r]) rfl ?_
  refine x_putF S cc_X12 h_r hK (v := .ref bs) (fs' := [.int (nI 0), .int (nI 0), .ref bs]) 2 (by decide) q1322 (fun _ hx => hx) rfl hin.symm rfl rfl rfl (by show 2 < 3; decide) rfl dX12_init_2_14 hS (Or.inl hA_0) (fun H locs h_r hz ho hS => ?_)
  have h_b_3 : bsP w bs wd_2 0 H := bsP.mono h_b_3 (ho _ (Ne.symm ne_1)) (ho _ (Ne.symm ne_4))
  have hSl := hS.le
  refine lv_aload_n S.1 S.2.1 dX12_init_2_17 rfl (lv_at hl 0 rfl) ?_
  refine lv_iload_n S.1 S.2.1 dX12_init_2_18 rfl (lv_at hl 1 rfl) ?_
  refine x_putF S cc_X12 h_r hK (v := .int (nI v)) (fs' := [.int (nI v), .int (nI 0), .ref bs]) 0 (by decide) q1320 (fun _ hx => hx) rfl hin.symm rfl rfl rfl (by show 0 < 3; decide) rfl dX12_init_2_19 hS (Or.inl hA_0) (fun H locs h_r hz ho hS => ?_)
  have h_b_3 : bsP w bs wd_2 0 H := bsP.mono h_b_3 (ho _ (Ne.symm ne_1)) (ho _ (Ne.symm ne_4))
  have hSl := hS.le
  refine lv_aload_n S.1 S.2.1 dX12_init_2_22 rfl (lv_at hl 0 rfl) ?_
  refine lv_iload_n S.1 S.2.1 dX12_init_2_23 rfl (lv_at hl 2 rfl) ?_
  refine x_putF S cc_X12 h_r hK (v := .int t) (fs' := [.int (nI v), .int t, .ref bs]) 1 (by decide) q1321 (fun _ hx => hx) rfl hin.symm rfl rfl rfl (by show 1 < 3; decide) rfl dX12_init_2_24 hS (Or.inl hA_0) (fun H locs h_r hz ho hS => ?_)
  have h_b_3 : bsP w bs wd_2 0 H := bsP.mono h_b_3 (ho _ (Ne.symm ne_1)) (ho _ (Ne.symm ne_4))
  have hSl := hS.le
  exact r_vret S B hS dX12_init_2_27 (Nat.le_of_ble_eq_true rfl) (Nat.le_of_ble_eq_true rfl) ⟨bs, wd_2, rfl, le_bs, le_wd_2, ne_5, ⟨h_r, h_b_3, ne_1, ne_4⟩⟩

abbrev rm_X12_init : Room := { frames := 4, cells := 2, slots := 4, locals := 84 }
set_option maxHeartbeats 4000000 in
theorem cx_X12_init (l : Launch) (w : Wd) (r : Nat) (v : Nat) (hb_0 : w.b0 ≤ r) : Ctr (GX w) l yX12_init cX12_init 2 none rm_X12_init [.ref r, .int (nI v)] (fun H => va_at w.D clA (r, .inr (13, [.int (nI 0), .int (nI 0), .null])) H) (fun H vR H1 => ∃ (bs : Nat) (wd : Nat), vR = none ∧ H.size ≤ bs ∧ H.size ≤ wd ∧ bs ≠ wd ∧ runP w r bs wd v (-1) 0 H1) (fun q => q = r) := by
  refine Ctr.mk (by decide +kernel) (Nat.le_of_ble_eq_true rfl) ?_
  intro p e s m a below meth c Q ls S B hin hG hP hl
  have S : CallFix p m c cX12_init 2 s a lw_all RX12 := S
  have hl : lv_has ls 2 [(0, .ref r), (1, .int (nI v))] := hl
  have hK := hG.kn
  have h_r := hP
  obtain ⟨A, hAe⟩ : ∃ A : Nat → Prop, A = (fun q => q = r) := ⟨_, rfl⟩
  rw [← hAe] at B
  have hS : Sx A s s.heap [] := Sx.rf
  generalize ([] : List Loc) = locs at hS ⊢
  have hA0 : ∀ q, A q → w.b0 ≤ q := fun q h => by rw [hAe] at h; exact (fun e => by rw [e]; exact hb_0) h
  have hA_0 : A r := Eq.mpr (congrFun hAe _) (rfl)
  have hSl := hS.le
  refine lv_aload_n S.1 S.2.1 dX12_init_0 rfl (lv_at hl 0 rfl) ?_
  refine lv_iload_n S.1 S.2.1 dX12_init_1 rfl (lv_at hl 1 rfl) ?_
  refine lv_iconst (v := (-1)) S.1 S.2.1 dX12_init_2 (by decide) ?_
  refine r_callI S (cx_X12_init_2 l w r v (-1) hb_0) (lw_meth q1294) q97 q1292 q1293 rfl ⟨by decide +kernel, by decide +kernel, by show _ = some 2; decide +kernel⟩ ⟨Nat.le_of_ble_eq_true rfl, Nat.le_of_ble_eq_true rfl⟩ (GX.blind w) (hG.at hS hA0) h_r hl.1 (rest := []) rfl (Nat.le_of_ble_eq_true rfl) dX12_init_3 ⟨(Nat.le_of_ble_eq_true rfl), (Nat.le_of_ble_eq_true rfl)⟩ hS (fun q => fun e => by rw [e]; exact (Or.inl hA_0)) (fun vR H locs hp hz hk hS => ?_)
  have hl_h_r := at_lt h_r
  obtain ⟨bs_1, wd_2, rfl, hn_bs_1, hn_wd_2, ne_3, h_u_4⟩ := hp
  have le_bs_1 : s.heap.size ≤ bs_1 := hn_bs_1
  have ne_5 : r ≠ bs_1 := fun e => by have := hl_h_r; omega
  have le_wd_2 : s.heap.size ≤ wd_2 := hn_wd_2
  have ne_6 : r ≠ wd_2 := fun e => by have := hl_h_r; omega
  have hSl := hS.le
  refine W.eq (g2 := F0 m 6 ls []) rfl ?_
  exact r_vret S B hS dX12_init_6 (Nat.le_of_ble_eq_true rfl) (Nat.le_of_ble_eq_true rfl) ⟨bs_1, wd_2, rfl, le_bs_1, le_wd_2, ne_3, h_u_4⟩

abbrev rm_X12_ask : Room := { frames := 3, cells := 0, slots := 0, locals := 66 }
set_option maxHeartbeats 4000000 in
theorem cx_X12_ask (l : Launch) (w : Wd) (r : Nat) (bs : Nat) (wd : Nat) (v : Nat) (t : Int32) (x : Nat) (k : Nat) (q : Nat) (hk8 : k < 8) (hq4 : q < 4) (hv : v < 2 ^ 31) (hb_0 : w.b0 ≤ bs) (hb_1 : w.b0 ≤ wd) : Ctr (GX w) l yX12_ask cX12_ask 3 (some .boolean) rm_X12_ask [.ref r, .int (nI k), .int (nI q)] (fun H => runP w r bs wd v t x H) (fun _ vR H1 => vR = some (.int (nI (Bool.toNat (v.testBit q != decide (nI k = t))))) ∧ runP w r bs wd v t (x ||| 1 <<< k) H1) (fun q => q = bs ∨ q = wd) := by
  refine Ctr.mk (by decide +kernel) (Nat.le_of_ble_eq_true rfl) ?_
  intro p e s m a below meth c Q ls S B hin hG hP hl
  have S : CallFix p m c cX12_ask 3 s a lw_all RX12 := S
  have hl : lv_has ls 3 [(0, .ref r), (1, .int (nI k)), (2, .int (nI q))] := hl
  have hK := hG.kn
  have h_u := hP
  obtain ⟨A, hAe⟩ : ∃ A : Nat → Prop, A = (fun q => q = bs ∨ q = wd) := ⟨_, rfl⟩
  rw [← hAe] at B
  have hS : Sx A s s.heap [] := Sx.rf
  generalize ([] : List Loc) = locs at hS ⊢
  have hA0 : ∀ q, A q → w.b0 ≤ q := fun q h => by rw [hAe] at h; exact (fun h => h.elim (fun e => by rw [e]; exact hb_0) (fun e => by rw [e]; exact hb_1)) h
  have hA_0 : A bs := Eq.mpr (congrFun hAe _) (Or.inl rfl)
  have hA_1 : A wd := Eq.mpr (congrFun hAe _) (Or.inr (rfl))
  have hSl := hS.le
  obtain ⟨h_r, h_b, hr1, hr2⟩ := h_u
  refine lv_aload_n S.1 S.2.1 dX12_ask_0 rfl (lv_at hl 0 rfl) ?_
  refine x_get S cc_X12 h_r hK (v := .ref bs) 2 (by decide) q1322 (fun _ hx => hx) rfl dX12_ask_1 ?_
  refine lv_iload_n S.1 S.2.1 dX12_ask_4 rfl (lv_at hl 1 rfl) ?_
  refine r_callV S (C := "java/util/BitSet") (cx_J28_set l w bs wd x k (show k < 8 by first | omega | assumption | exact b_lt _ | exact Nat.lt_of_le_of_lt Nat.and_le_right (by decide) | exact Nat.lt_of_le_of_lt Nat.and_le_right (by omega) | exact Nat.lt_of_le_of_lt Nat.and_le_left (by omega)) hb_0 hb_1) (lw_V q1351 q1352 q1353 q98 q1354) ⟨rfl, by decide +kernel, by decide +kernel, by show _ = some 1; decide +kernel⟩ ⟨Nat.le_of_ble_eq_true rfl, Nat.le_of_ble_eq_true rfl⟩ (bsP.rv h_b hK) (GX.blind w) (hG.at hS hA0) h_b hl.1 (rest := []) rfl (Nat.le_of_ble_eq_true rfl) dX12_ask_5 ⟨(Nat.le_of_ble_eq_true rfl), (Nat.le_of_ble_eq_true rfl)⟩ hS (fun q => fun h => h.elim (fun e => by rw [e]; exact (Or.inl hA_0)) (fun e => by rw [e]; exact (Or.inl hA_1))) (fun vR H locs hp hz hk hS => ?_)
  obtain ⟨rfl, h_b⟩ := hp
  have hSl := hS.le
  refine W.eq (g2 := F0 m 8 ls []) rfl ?_
  refine lv_aload_n S.1 S.2.1 dX12_ask_8 rfl (lv_at hl 0 rfl) ?_
  refine x_get S cc_X12 (va_at.old h_r hS (fun h => by rw [hAe] at h; exact (fun h0 => h0.elim (fun e0 => hr1 e0) (fun e1 => hr2 e1)) h)) hK (v := .int (nI v)) 0 (by decide) q1320 (fun _ hx => hx) rfl dX12_ask_9 ?_
  refine lv_iload_n S.1 S.2.1 dX12_ask_12 rfl (lv_at hl 2 rfl) ?_
  refine n_ishr S dX12_ask_13 (by first | omega | assumption | exact b_lt _ | exact Nat.lt_of_le_of_lt Nat.and_le_right (by decide) | exact Nat.lt_of_le_of_lt Nat.and_le_right (by omega) | exact Nat.lt_of_le_of_lt Nat.and_le_left (by omega)) (by omega) ?_
  refine lv_iconst (v := (nI 1)) S.1 S.2.1 dX12_ask_14 (by decide) ?_
  refine n_iand S dX12_ask_15 ?_
  refine lv_iconst (v := (nI 1)) S.1 S.2.1 dX12_ask_16 (by decide) ?_
  suffices j_2 : W p l e rm_X12_ask s m a below meth c H locs 0 0 Q (F0 m 25 ls [.int (nI (Bool.toNat (decide (((v >>> q) &&& 1) = 1))))]) by
    refine n_icmp_ne (tgt := 24) S dX12_ask_17 (by decide) (by first | omega | assumption | exact b_lt _ | exact Nat.lt_of_le_of_lt Nat.and_le_right (by decide) | exact Nat.lt_of_le_of_lt Nat.and_le_right (by omega) | exact Nat.lt_of_le_of_lt Nat.and_le_left (by omega)) (by decide) (fun h_1 => ?_) (fun h_1 => ?_)
    · skip
      refine lv_iconst (v := (nI 0)) S.1 S.2.1 dX12_ask_24 (by decide) ?_
      refine W.eq ?_ j_2
      first | (simp only [h_1, eq_self, decide_true, decide_false, if_true, if_false, reduceIte, Bool.not_true, Bool.not_false, Bool.true_and, Bool.false_and, Bool.and_true, Bool.and_false, Bool.true_or, Bool.false_or, Bool.or_true, Bool.or_false, Bool.toNat_true, Bool.toNat_false, Bool.false_eq_true, Bool.true_eq_false, not_true_eq_false, not_false_eq_true]; done) | (simp [h_1]; done)
    · skip
      refine lv_iconst (v := (nI 1)) S.1 S.2.1 dX12_ask_20 (by decide) ?_
      refine lv_goto (tgt := 25) S.1 S.2.1 dX12_ask_21 (by decide) ?_
      refine W.eq ?_ j_2
      first | (simp only [h_1, eq_self, decide_true, decide_false, if_true, if_false, reduceIte, Bool.not_true, Bool.not_false, Bool.true_and, Bool.false_and, Bool.and_true, Bool.and_false, Bool.true_or, Bool.false_or, Bool.or_true, Bool.or_false, Bool.toNat_true, Bool.toNat_false, Bool.false_eq_true, Bool.true_eq_false, not_true_eq_false, not_false_eq_true]; done) | (simp [h_1]; done)
  refine lv_iload_n S.1 S.2.1 dX12_ask_25 rfl (lv_at hl 1 rfl) ?_
  refine lv_aload_n S.1 S.2.1 dX12_ask_26 rfl (lv_at hl 0 rfl) ?_
  refine x_get S cc_X12 (va_at.old h_r hS (fun h => by rw [hAe] at h; exact (fun h0 => h0.elim (fun e0 => hr1 e0) (fun e1 => hr2 e1)) h)) hK (v := .int t) 1 (by decide) q1321 (fun _ hx => hx) rfl dX12_ask_27 ?_
  suffices j_4 : W p l e rm_X12_ask s m a below meth c H locs 0 0 Q (F0 m 38 ls [.int (nI (Bool.toNat (decide ((nI k) = t)))), .int (nI (Bool.toNat (decide (((v >>> q) &&& 1) = 1))))]) by
    refine lv_icmp_ne (tgt := 37) S.1 S.2.1 dX12_ask_30 (by decide) (fun h_3 => ?_) (fun h_3 => ?_)
    · skip
      refine lv_iconst (v := (nI 0)) S.1 S.2.1 dX12_ask_37 (by decide) ?_
      refine W.eq ?_ j_4
      first | (simp only [h_3, eq_self, decide_true, decide_false, if_true, if_false, reduceIte, Bool.not_true, Bool.not_false, Bool.true_and, Bool.false_and, Bool.and_true, Bool.and_false, Bool.true_or, Bool.false_or, Bool.or_true, Bool.or_false, Bool.toNat_true, Bool.toNat_false, Bool.false_eq_true, Bool.true_eq_false, not_true_eq_false, not_false_eq_true]; done) | (simp [h_3]; done)
    · skip
      refine lv_iconst (v := (nI 1)) S.1 S.2.1 dX12_ask_33 (by decide) ?_
      refine lv_goto (tgt := 38) S.1 S.2.1 dX12_ask_34 (by decide) ?_
      refine W.eq ?_ j_4
      first | (simp only [h_3, eq_self, decide_true, decide_false, if_true, if_false, reduceIte, Bool.not_true, Bool.not_false, Bool.true_and, Bool.false_and, Bool.and_true, Bool.and_false, Bool.true_or, Bool.false_or, Bool.or_true, Bool.or_false, Bool.toNat_true, Bool.toNat_false, Bool.false_eq_true, Bool.true_eq_false, not_true_eq_false, not_false_eq_true]; done) | (simp [h_3]; done)
  suffices j_6 : W p l e rm_X12_ask s m a below meth c H locs 0 0 Q (F0 m 46 ls [.int (nI (Bool.toNat (!(decide ((decide (((v >>> q) &&& 1) = 1)) = (decide ((nI k) = t)))))))]) by
    refine b_icmp_eq (tgt := 45) S dX12_ask_38 (by decide) (fun h_5 => ?_) (fun h_5 => ?_)
    · skip
      refine lv_iconst (v := (nI 0)) S.1 S.2.1 dX12_ask_45 (by decide) ?_
      refine W.eq ?_ j_6
      first | (simp only [h_5, eq_self, decide_true, decide_false, if_true, if_false, reduceIte, Bool.not_true, Bool.not_false, Bool.true_and, Bool.false_and, Bool.and_true, Bool.and_false, Bool.true_or, Bool.false_or, Bool.or_true, Bool.or_false, Bool.toNat_true, Bool.toNat_false, Bool.false_eq_true, Bool.true_eq_false, not_true_eq_false, not_false_eq_true]; done) | (simp [h_5]; done)
    · skip
      refine lv_iconst (v := (nI 1)) S.1 S.2.1 dX12_ask_41 (by decide) ?_
      refine lv_goto (tgt := 46) S.1 S.2.1 dX12_ask_42 (by decide) ?_
      refine W.eq ?_ j_6
      first | (simp only [h_5, eq_self, decide_true, decide_false, if_true, if_false, reduceIte, Bool.not_true, Bool.not_false, Bool.true_and, Bool.false_and, Bool.and_true, Bool.and_false, Bool.true_or, Bool.false_or, Bool.or_true, Bool.or_false, Bool.toNat_true, Bool.toNat_false, Bool.false_eq_true, Bool.true_eq_false, not_true_eq_false, not_false_eq_true]; done) | (simp [h_5]; done)
  have er : (!(decide ((decide (((v >>> q) &&& 1) = 1)) = (decide ((nI k) = t))))) = (v.testBit q != decide (nI k = t)) := by rw [tb_eq]; cases v.testBit q <;> cases decide (nI k = t) <;> rfl
  exact r_iret S B hS dX12_ask_46 (nar_b _) (Nat.le_of_ble_eq_true rfl) (Nat.le_of_ble_eq_true rfl) ⟨(congrArg (fun z : Bool => some (Value.int (nI z.toNat))) er), ⟨(va_at.old h_r hS (fun h => by rw [hAe] at h; exact (fun h0 => h0.elim (fun e0 => hr1 e0) (fun e1 => hr2 e1)) h)), h_b, hr1, hr2⟩⟩
