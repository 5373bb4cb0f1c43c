set_option maxRecDepth 100000
/-! decisions -/
def vlF (L : Nat → Nat) (cm v : Nat) : Nat := bitsTo (fun c => Nat.testBit v (L c)) cm
theorem vlF_lt {L : Nat → Nat} {cm v : Nat} (h : cm ≤ 8) : vlF L cm v < 256 := Nat.lt_of_lt_of_le (bitsTo_lt _ _) (Nat.pow_le_pow_right (by decide) h)
theorem vlF_x {L : Nat → Nat} {cm v : Nat} (h : cm ≤ 8) : ∀ c, c < cm → Nat.testBit (vlF L cm v) c = (v.testBit (L c) != decide (nI c = -1)) := by
  intro c hc
  rw [vlF, bitsTo_test, decide_eq_true hc, decide_eq_false (nI_m1 (by omega))]
  cases v.testBit (L c) <;> rfl
theorem vlF_t {L : Nat → Nat} {cm v k : Nat} (h : cm ≤ 8) (hk : k < cm) : ∀ c, c < cm → Nat.testBit (vlF L cm v ^^^ 1 <<< k) c = (v.testBit (L c) != decide (nI c = nI k)) := by
  intro c hc
  rw [Nat.testBit_xor, vlF, bitsTo_test, decide_eq_true hc, Nat.one_shiftLeft, Nat.testBit_two_pow]
  have e : (nI c = nI k) ↔ (k = c) := by rw [nI_eq (by omega) (by omega)]; exact eq_comm
  by_cases h2 : k = c
  · rw [decide_eq_true h2, decide_eq_true (e.mpr h2)]; cases v.testBit (L c) <;> rfl
  · rw [decide_eq_false h2, decide_eq_false (fun z => h2 (e.mp z))]; cases v.testBit (L c) <;> rfl
def wfX (K O T L : Nat → Nat) (n cm : Nat) : Prop := wfP K O T n cm ∧ (∀ c, c < cm → L c < 4) ∧ cm ≤ 8 ∧ 1 ≤ n ∧ n ≤ 40
def DP (w : Wd) (d lt ts : Nat) (nd K O T L : Nat → Nat) (n cm : Nat) (H : Heap) : Prop := va_at w.D clA (d, .inr (7, [.ref (nd (n - 1)), .ref lt, .int (nI ts)])) H ∧ va_at w.D clA (lt, .inl (w.dA 0, cm, .inl (fun j => nI (L j)))) H ∧ TP w nd K O T L n H.size H
theorem DP.mono {w : Wd} {d lt ts : Nat} {nd K O T L : Nat → Nat} {n cm : Nat} {H H1 : Heap} (h : DP w d lt ts nd K O T L n cm H) (hq : ∀ q, True → q < H.size → H1[q]? = H[q]?) (hz : H.size ≤ H1.size) : DP w d lt ts nd K O T L n cm H1 :=
  ⟨h.1.kept (hq _ trivial h.1.lt), h.2.1.kept (hq _ trivial h.2.1.lt), fun i hi => ⟨Nat.lt_of_lt_of_le (h.2.2 i hi).1 hz, (h.2.2 i hi).2.kept (hq _ trivial (h.2.2 i hi).1)⟩⟩
abbrev rm_X11_outcome : Room := { frames := 60, cells := 3, slots := 7, locals := 2000 }
set_option maxHeartbeats 4000000 in
theorem cx_X11_outcome (l : Launch) (w : Wd) (d : Nat) (lt : Nat) (ts : Nat) (nd : Nat → Nat) (K : Nat → Nat) (O : Nat → Nat) (T : Nat → Nat) (L : Nat → Nat) (n : Nat) (cm : Nat) (v : Nat) (hwx : wfX K O T L n cm) (hv : v < 16) : Ctr (GX w) l yX11_outcome cX11_outcome 2 (some .boolean) rm_X11_outcome [.ref d, .int (nI v)] (fun H => DP w d lt ts nd K O T L n cm H) (fun _ vR _ => vR = some (.int (nI (Bool.toNat ((EV K O T (vlF L cm v) (n - 1)).1))))) (fun _ => False) := by
  refine Ctr.mk (by decide +kernel) (Nat.le_of_ble_eq_true rfl) ?_
  intro p e s m a below meth c Q ls S B hin hG hP hl
  have S : CallFix p m c cX11_outcome 2 s a lw_all RX11 := S
  have hl : lv_has ls 2 [(0, .ref d), (1, .int (nI v))] := hl
  have hK := hG.kn
  have h_p := hP
  obtain ⟨A, hAe⟩ : ∃ A : Nat → Prop, A = (fun _ => False) := ⟨_, rfl⟩
  rw [← hAe] at B
  have hS : Sx A s s.heap [] := Sx.rf
  generalize ([] : List Loc) = locs at hS ⊢
  have hAn : ∀ q, ¬ A q := fun q h => by rw [hAe] at h; exact h
  have hA0 : ∀ q, A q → w.b0 ≤ q := fun q h => (hAn q h).elim
  have hSl := hS.le
  obtain ⟨h_d, h_lt, h_t⟩ := h_p
  obtain ⟨hw, hL, hcm, hn1, hn40⟩ := hwx
  refine lv_aload_n S.1 S.2.1 dX11_outcome_0 rfl (lv_at hl 0 rfl) ?_
  refine x_get S cc_X11 h_d hK (v := .ref (nd (n - 1))) 0 (by decide) q1156 (fun _ hx => hx) rfl dX11_outcome_1 ?_
  refine x_new S cc_X12 (fs := [.int (nI 0), .int (nI 0), .null]) hK q1287 q1288 q97 (by decide +kernel) (Nat.le_of_ble_eq_true rfl) (Nat.le_of_ble_eq_true rfl) dX11_outcome_4 hS (fun r H h_r hn hz ho hS => ?_)
  have le_r : s.heap.size ≤ r := hn
  have hSl := hS.le
  refine lv_dup S.1 S.2.1 dX11_outcome_7 rfl ?_
  refine lv_iload_n S.1 S.2.1 dX11_outcome_8 rfl (lv_at hl 1 rfl) ?_
  refine r_callI S (cx_X12_init l w r v (Nat.le_trans hG.sz le_r)) (lw_meth q1291) q97 q1289 q1290 rfl ⟨by decide +kernel, by decide +kernel, by show _ = some 1; decide +kernel⟩ ⟨Nat.le_of_ble_eq_true rfl, Nat.le_of_ble_eq_true rfl⟩ (GX.blind w) (hG.at hS hA0) h_r hl.1 (rest := [.ref r, .ref (nd (n - 1))]) rfl (Nat.le_of_ble_eq_true rfl) dX11_outcome_9 ⟨(Nat.le_of_ble_eq_true rfl), (Nat.le_of_ble_eq_true rfl)⟩ hS (fun q => fun e => by rw [e]; exact (Or.inr le_r)) (fun vR H locs hp hz hk hS => ?_)
  have hl_h_r := at_lt h_r
  obtain ⟨bs_1, wd_2, rfl, hn_bs_1, hn_wd_2, ne_3, h_u_4⟩ := hp
  have le_bs_1 : s.heap.size ≤ bs_1 := Nat.le_trans hSl hn_bs_1
  have ne_5 : r ≠ bs_1 := fun e => by have := hl_h_r; omega
  have le_wd_2 : s.heap.size ≤ wd_2 := Nat.le_trans hSl hn_wd_2
  have ne_6 : r ≠ wd_2 := fun e => by have := hl_h_r; omega
  have hSl := hS.le
  refine W.eq (g2 := F0 m 12 ls [.ref r, .ref (nd (n - 1))]) rfl ?_
  refine x_ask S (ask_all l w (cm := cm) nd K O T L n s.heap.size (vlF L cm v) v (-1) r bs_1 wd_2 hw le_bs_1 le_wd_2 (vlF_x hcm) hL hcm (by omega) (Nat.le_trans hG.sz le_bs_1) (Nat.le_trans hG.sz le_wd_2) (n - 1) (by omega)) (u := 0) ((hw (n - 1) (by omega)).1) (by omega) hG q1332 (TP.mono h_t (fun q hq hz => hS.old hz (hAn _))) h_u_4 ⟨by show n - 1 + 10 + 1 ≤ 60; omega, by show 8 + (2 + 11) + ((n - 1) * 40 + 200) ≤ 2000; omega⟩ hA0 hl.1 (Nat.le_of_ble_eq_true rfl) dX11_outcome_12 ⟨Nat.le_of_ble_eq_true rfl, Nat.le_of_ble_eq_true rfl⟩ hS (fun q h => h.elim (fun e => by rw [e]; exact (Or.inr le_bs_1)) (fun e => by rw [e]; exact (Or.inr le_wd_2))) (fun H locs h_u_4 hz hk hS => ?_)
  have hSl := hS.le
  have er : ((EV K O T (vlF L cm v) (n - 1)).1) = ((EV K O T (vlF L cm v) (n - 1)).1) := by rfl
  exact r_iret S B hS dX11_outcome_17 (nar_b _) (Nat.le_of_ble_eq_true rfl) (Nat.le_of_ble_eq_true rfl) (congrArg (fun z : Bool => some (Value.int (nI z.toNat))) er)

abbrev rm_X11_asked : Room := { frames := 60, cells := 3, slots := 7, locals := 2000 }
set_option maxHeartbeats 4000000 in
theorem cx_X11_asked (l : Launch) (w : Wd) (d : Nat) (lt : Nat) (ts : Nat) (nd : Nat → Nat) (K : Nat → Nat) (O : Nat → Nat) (T : Nat → Nat) (L : Nat → Nat) (n : Nat) (cm : Nat) (v : Nat) (hwx : wfX K O T L n cm) (hv : v < 16) : Ctr (GX w) l yX11_asked cX11_asked 4 (some (.object "java/util/BitSet")) rm_X11_asked [.ref d, .int (nI v)] (fun H => DP w d lt ts nd K O T L n cm H) (fun H vR H1 => ∃ (bs : Nat) (wd : Nat), vR = some (.ref bs) ∧ H.size ≤ bs ∧ H.size ≤ wd ∧ bs ≠ wd ∧ bsP w bs wd ((EV K O T (vlF L cm v) (n - 1)).2) H1) (fun _ => False) := by
  refine Ctr.mk (by decide +kernel) (Nat.le_of_ble_eq_true rfl) ?_
  intro p e s m a below meth c Q ls S B hin hG hP hl
  have S : CallFix p m c cX11_asked 4 s a lw_all RX11 := S
  have hl : lv_has ls 4 [(0, .ref d), (1, .int (nI v))] := hl
  have hK := hG.kn
  have h_p := hP
  obtain ⟨A, hAe⟩ : ∃ A : Nat → Prop, A = (fun _ => False) := ⟨_, rfl⟩
  rw [← hAe] at B
  have hS : Sx A s s.heap [] := Sx.rf
  generalize ([] : List Loc) = locs at hS ⊢
  have hAn : ∀ q, ¬ A q := fun q h => by rw [hAe] at h; exact h
  have hA0 : ∀ q, A q → w.b0 ≤ q := fun q h => (hAn q h).elim
  have hSl := hS.le
  obtain ⟨h_d, h_lt, h_t⟩ := h_p
  obtain ⟨hw, hL, hcm, hn1, hn40⟩ := hwx
  refine x_new S cc_X12 (fs := [.int (nI 0), .int (nI 0), .null]) hK q1287 q1288 q97 (by decide +kernel) (Nat.le_of_ble_eq_true rfl) (Nat.le_of_ble_eq_true rfl) dX11_asked_0 hS (fun r H h_r hn hz ho hS => ?_)
  have le_r : s.heap.size ≤ r := hn
  have hSl := hS.le
  refine lv_dup S.1 S.2.1 dX11_asked_3 rfl ?_
  refine lv_iload_n S.1 S.2.1 dX11_asked_4 rfl (lv_at hl 1 rfl) ?_
  refine r_callI S (cx_X12_init l w r v (Nat.le_trans hG.sz le_r)) (lw_meth q1291) q97 q1289 q1290 rfl ⟨by decide +kernel, by decide +kernel, by show _ = some 1; decide +kernel⟩ ⟨Nat.le_of_ble_eq_true rfl, Nat.le_of_ble_eq_true rfl⟩ (GX.blind w) (hG.at hS hA0) h_r hl.1 (rest := [.ref r]) rfl (Nat.le_of_ble_eq_true rfl) dX11_asked_5 ⟨(Nat.le_of_ble_eq_true rfl), (Nat.le_of_ble_eq_true rfl)⟩ hS (fun q => fun e => by rw [e]; exact (Or.inr le_r)) (fun vR H locs hp hz hk hS => ?_)
  have hl_h_r := at_lt h_r
  obtain ⟨bs_1, wd_2, rfl, hn_bs_1, hn_wd_2, ne_3, h_u_4⟩ := hp
  have le_bs_1 : s.heap.size ≤ bs_1 := Nat.le_trans hSl hn_bs_1
  have ne_5 : r ≠ bs_1 := fun e => by have := hl_h_r; omega
  have le_wd_2 : s.heap.size ≤ wd_2 := Nat.le_trans hSl hn_wd_2
  have ne_6 : r ≠ wd_2 := fun e => by have := hl_h_r; omega
  have hSl := hS.le
  refine W.eq (g2 := F0 m 8 ls [.ref r]) rfl ?_
  refine lv_astore_n (lv' := [(2, .ref r), (0, .ref d), (1, .int (nI v))]) S.1 S.2.1 dX11_asked_8 rfl hl (by decide) rfl (fun ls hl => ?_)
  refine lv_aload_n S.1 S.2.1 dX11_asked_9 rfl (lv_at hl 1 rfl) ?_
  refine x_get S cc_X11 (va_at.old h_d hS (hAn _)) hK (v := .ref (nd (n - 1))) 0 (by decide) q1156 (fun _ hx => hx) rfl dX11_asked_10 ?_
  refine lv_aload_n S.1 S.2.1 dX11_asked_13 rfl (lv_at hl 0 rfl) ?_
  refine x_ask S (ask_all l w (cm := cm) nd K O T L n s.heap.size (vlF L cm v) v (-1) r bs_1 wd_2 hw le_bs_1 le_wd_2 (vlF_x hcm) hL hcm (by omega) (Nat.le_trans hG.sz le_bs_1) (Nat.le_trans hG.sz le_wd_2) (n - 1) (by omega)) (u := 0) ((hw (n - 1) (by omega)).1) (by omega) hG q1332 (TP.mono h_t (fun q hq hz => hS.old hz (hAn _))) h_u_4 ⟨by show n - 1 + 10 + 1 ≤ 60; omega, by show 8 + (2 + 11) + ((n - 1) * 40 + 200) ≤ 2000; omega⟩ hA0 hl.1 (Nat.le_of_ble_eq_true rfl) dX11_asked_14 ⟨Nat.le_of_ble_eq_true rfl, Nat.le_of_ble_eq_true rfl⟩ hS (fun q h => h.elim (fun e => by rw [e]; exact (Or.inr le_bs_1)) (fun e => by rw [e]; exact (Or.inr le_wd_2))) (fun H locs h_u_4 hz hk hS => ?_)
  have hSl := hS.le
  refine lv_istore_n (lv' := [(3, .int (nI (Bool.toNat ((EV K O T (vlF L cm v) (n - 1)).1)))), (2, .ref r), (0, .ref d), (1, .int (nI v))]) S.1 S.2.1 dX11_asked_19 rfl hl (by decide) rfl (fun ls hl => ?_)
  obtain ⟨h_r, h_b, hr1, hr2⟩ := h_u_4
  refine lv_aload_n S.1 S.2.1 dX11_asked_20 rfl (lv_at hl 1 rfl) ?_
  refine x_getN S cc_X12 h_r hK hG.tw (v := .ref bs_1) 2 (by decide) q1323 (fun _ hx => hx) rfl dX11_asked_21 ?_
  exact r_aret S B hS dX11_asked_24 (Or.inl ⟨_, rfl⟩) (Or.inr ⟨_, rfl⟩) (Nat.le_of_ble_eq_true rfl) (Nat.le_of_ble_eq_true rfl) ⟨bs_1, wd_2, rfl, le_bs_1, le_wd_2, ne_3, (by rw [Nat.zero_or] at h_b; exact h_b)⟩

abbrev rm_X11_isDeciding : Room := { frames := 62, cells := 6, slots := 14, locals := 2100 }
set_option maxHeartbeats 4000000 in
theorem cx_X11_isDeciding (l : Launch) (w : Wd) (d : Nat) (lt : Nat) (ts : Nat) (nd : Nat → Nat) (K : Nat → Nat) (O : Nat → Nat) (T : Nat → Nat) (L : Nat → Nat) (n : Nat) (cm : Nat) (v : Nat) (k : Nat) (hwx : wfX K O T L n cm) (hv : v < 16) (hkc : k < cm) : Ctr (GX w) l yX11_isDeciding cX11_isDeciding 3 (some .boolean) rm_X11_isDeciding [.ref d, .int (nI k), .int (nI v)] (fun H => DP w d lt ts nd K O T L n cm H) (fun _ vR _ => vR = some (.int (nI (Bool.toNat (!decide ((EV K O T (vlF L cm v ^^^ 1 <<< k) (n - 1)).1 = (EV K O T (vlF L cm v) (n - 1)).1)))))) (fun _ => False) := by
  refine Ctr.mk (by decide +kernel) (Nat.le_of_ble_eq_true rfl) ?_
  intro p e s m a below meth c Q ls S B hin hG hP hl
  have S : CallFix p m c cX11_isDeciding 3 s a lw_all RX11 := S
  have hl : lv_has ls 3 [(0, .ref d), (1, .int (nI k)), (2, .int (nI v))] := hl
  have hK := hG.kn
  have h_p := hP
  obtain ⟨A, hAe⟩ : ∃ A : Nat → Prop, A = (fun _ => False) := ⟨_, rfl⟩
  rw [← hAe] at B
  have hS : Sx A s s.heap [] := Sx.rf
  generalize ([] : List Loc) = locs at hS ⊢
  have hAn : ∀ q, ¬ A q := fun q h => by rw [hAe] at h; exact h
  have hA0 : ∀ q, A q → w.b0 ≤ q := fun q h => (hAn q h).elim
  have hSl := hS.le
  obtain ⟨h_d, h_lt, h_t⟩ := h_p
  obtain ⟨hw, hL, hcm, hn1, hn40⟩ := hwx
  refine lv_aload_n S.1 S.2.1 dX11_isDeciding_0 rfl (lv_at hl 0 rfl) ?_
  refine x_get S cc_X11 h_d hK (v := .ref (nd (n - 1))) 0 (by decide) q1156 (fun _ hx => hx) rfl dX11_isDeciding_1 ?_
  refine x_new S cc_X12 (fs := [.int (nI 0), .int (nI 0), .null]) hK q1287 q1288 q97 (by decide +kernel) (Nat.le_of_ble_eq_true rfl) (Nat.le_of_ble_eq_true rfl) dX11_isDeciding_4 hS (fun r H h_r hn hz ho hS => ?_)
  have le_r : s.heap.size ≤ r := hn
  have hSl := hS.le
  refine lv_dup S.1 S.2.1 dX11_isDeciding_7 rfl ?_
  refine lv_iload_n S.1 S.2.1 dX11_isDeciding_8 rfl (lv_at hl 2 rfl) ?_
  refine lv_iload_n S.1 S.2.1 dX11_isDeciding_9 rfl (lv_at hl 1 rfl) ?_
  refine r_callI S (cx_X12_init_2 l w r v (nI k) (Nat.le_trans hG.sz le_r)) (lw_meth q1294) q97 q1441 q1293 rfl ⟨by decide +kernel, by decide +kernel, by show _ = some 2; decide +kernel⟩ ⟨Nat.le_of_ble_eq_true rfl, Nat.le_of_ble_eq_true rfl⟩ (GX.blind w) (hG.at hS hA0) h_r hl.1 (rest := [.ref r, .ref (nd (n - 1))]) rfl (Nat.le_of_ble_eq_true rfl) dX11_isDeciding_10 ⟨(Nat.le_of_ble_eq_true rfl), (Nat.le_of_ble_eq_true rfl)⟩ hS (fun q => fun e => by rw [e]; exact (Or.inr le_r)) (fun vR H locs hp hz hk hS => ?_)
  have hl_h_r := at_lt h_r
  obtain ⟨bs_1, wd_2, rfl, hn_bs_1, hn_wd_2, ne_3, h_u_4⟩ := hp
  have le_bs_1 : s.heap.size ≤ bs_1 := Nat.le_trans hSl hn_bs_1
  have ne_5 : r ≠ bs_1 := fun e => by have := hl_h_r; omega
  have le_wd_2 : s.heap.size ≤ wd_2 := Nat.le_trans hSl hn_wd_2
  have ne_6 : r ≠ wd_2 := fun e => by have := hl_h_r; omega
  have hSl := hS.le
  refine W.eq (g2 := F0 m 13 ls [.ref r, .ref (nd (n - 1))]) rfl ?_
  refine x_ask S (ask_all l w (cm := cm) nd K O T L n s.heap.size (vlF L cm v ^^^ 1 <<< k) v (nI k) r bs_1 wd_2 hw le_bs_1 le_wd_2 (vlF_t hcm hkc) hL hcm (by omega) (Nat.le_trans hG.sz le_bs_1) (Nat.le_trans hG.sz le_wd_2) (n - 1) (by omega)) (u := 0) ((hw (n - 1) (by omega)).1) (by omega) hG q1332 (TP.mono h_t (fun q hq hz => hS.old hz (hAn _))) h_u_4 ⟨by show n - 1 + 10 + 1 ≤ 62; omega, by show 8 + (2 + 11) + ((n - 1) * 40 + 200) ≤ 2100; omega⟩ hA0 hl.1 (Nat.le_of_ble_eq_true rfl) dX11_isDeciding_13 ⟨Nat.le_of_ble_eq_true rfl, Nat.le_of_ble_eq_true rfl⟩ hS (fun q h => h.elim (fun e => by rw [e]; exact (Or.inr le_bs_1)) (fun e => by rw [e]; exact (Or.inr le_wd_2))) (fun H locs h_u_4 hz hk hS => ?_)
  have hSl := hS.le
  refine lv_aload_n S.1 S.2.1 dX11_isDeciding_18 rfl (lv_at hl 0 rfl) ?_
  refine lv_iload_n S.1 S.2.1 dX11_isDeciding_19 rfl (lv_at hl 2 rfl) ?_
  refine r_callV S (C := "ConditionWise$Decision") (cx_X11_outcome l w d lt ts nd K O T L n cm v ⟨hw, hL, hcm, hn1, hn40⟩ hv) (lw_V q1442 q1284 q1285 q93 q1286) ⟨rfl, by decide +kernel, by decide +kernel, by show _ = some 1; decide +kernel⟩ ⟨Nat.le_of_ble_eq_true rfl, Nat.le_of_ble_eq_true rfl⟩ (r_recv (va_at.old h_d hS (hAn _)) hK (q := (RX11, TX11, 3)) rfl) (GX.blind w) (hG.at hS hA0) (DP.mono hP (fun q _ hz => hS.old hz (hAn q)) hS.le) hl.1 (rest := [.int (nI (Bool.toNat ((EV K O T (vlF L cm v ^^^ 1 <<< k) (n - 1)).1)))]) rfl (Nat.le_of_ble_eq_true rfl) dX11_isDeciding_20 ⟨(Nat.le_of_ble_eq_true rfl), (Nat.le_of_ble_eq_true rfl)⟩ hS (fun _ h => h.elim) (fun vR H locs hp hz hk hS => ?_)
  subst hp
  have h_u_4 : runP w r bs_1 wd_2 v (nI k) (0 ||| (EV K O T (vlF L cm v ^^^ 1 <<< k) (n - 1)).2) H := runP.mono h_u_4 (hk _ (runP.lt h_u_4).1 (fun h => h)) (hk _ (runP.lt h_u_4).2.1 (fun h => h)) (hk _ (runP.lt h_u_4).2.2 (fun h => h))
  have hSl := hS.le
  refine W.eq (g2 := F0 m 23 ls [.int (nI (Bool.toNat ((EV K O T (vlF L cm v) (n - 1)).1))), .int (nI (Bool.toNat ((EV K O T (vlF L cm v ^^^ 1 <<< k) (n - 1)).1)))]) rfl ?_
  suffices j_8 : W p l e rm_X11_isDeciding s m a below meth c H locs 6 14 Q (F0 m 31 ls [.int (nI (Bool.toNat (!(decide (((EV K O T (vlF L cm v ^^^ 1 <<< k) (n - 1)).1) = ((EV K O T (vlF L cm v) (n - 1)).1))))))]) by
    refine b_icmp_eq (tgt := 30) S dX11_isDeciding_23 (by decide) (fun h_7 => ?_) (fun h_7 => ?_)
    · skip
      refine lv_iconst (v := (nI 0)) S.1 S.2.1 dX11_isDeciding_30 (by decide) ?_
      refine W.eq ?_ j_8
      first | (simp only [h_7, eq_self, decide_true, decide_false, if_true, if_false, reduceIte, Bool.not_true, Bool.not_false, Bool.true_and, Bool.false_and, Bool.and_true, Bool.and_false, Bool.true_or, Bool.false_or, Bool.or_true, Bool.or_false, Bool.toNat_true, Bool.toNat_false, Bool.false_eq_true, Bool.true_eq_false, not_true_eq_false, not_false_eq_true]; done) | (simp [h_7]; done)
    · skip
      refine lv_iconst (v := (nI 1)) S.1 S.2.1 dX11_isDeciding_26 (by decide) ?_
      refine lv_goto (tgt := 31) S.1 S.2.1 dX11_isDeciding_27 (by decide) ?_
      refine W.eq ?_ j_8
      first | (simp only [h_7, eq_self, decide_true, decide_false, if_true, if_false, reduceIte, Bool.not_true, Bool.not_false, Bool.true_and, Bool.false_and, Bool.and_true, Bool.and_false, Bool.true_or, Bool.false_or, Bool.or_true, Bool.or_false, Bool.toNat_true, Bool.toNat_false, Bool.false_eq_true, Bool.true_eq_false, not_true_eq_false, not_false_eq_true]; done) | (simp [h_7]; done)
  have er : (!(decide (((EV K O T (vlF L cm v ^^^ 1 <<< k) (n - 1)).1) = ((EV K O T (vlF L cm v) (n - 1)).1)))) = (!decide ((EV K O T (vlF L cm v ^^^ 1 <<< k) (n - 1)).1 = (EV K O T (vlF L cm v) (n - 1)).1)) := by rfl
  exact r_iret S B hS dX11_isDeciding_31 (nar_b _) (Nat.le_of_ble_eq_true rfl) (Nat.le_of_ble_eq_true rfl) (congrArg (fun z : Bool => some (Value.int (nI z.toNat))) er)

abbrev rm_X11_value : Room := { frames := 0, cells := 0, slots := 0, locals := 0 }
set_option maxHeartbeats 4000000 in
theorem cx_X11_value (l : Launch) (w : Wd) (d : Nat) (lt : Nat) (ts : Nat) (nd : Nat → Nat) (K : Nat → Nat) (O : Nat → Nat) (T : Nat → Nat) (L : Nat → Nat) (n : Nat) (cm : Nat) (v : Nat) (k : Nat) (hwx : wfX K O T L n cm) (hv : v < 16) (hkc : k < cm) : Ctr (GX w) l yX11_value cX11_value 3 (some .boolean) rm_X11_value [.ref d, .int (nI k), .int (nI v)] (fun H => DP w d lt ts nd K O T L n cm H) (fun _ vR _ => vR = some (.int (nI (Bool.toNat (v.testBit (L k)))))) (fun _ => False) := by
  refine Ctr.mk (by decide +kernel) (Nat.le_of_ble_eq_true rfl) ?_
  intro p e s m a below meth c Q ls S B hin hG hP hl
  have S : CallFix p m c cX11_value 3 s a lw_all RX11 := S
  have hl : lv_has ls 3 [(0, .ref d), (1, .int (nI k)), (2, .int (nI v))] := hl
  have hK := hG.kn
  have h_p := hP
  obtain ⟨A, hAe⟩ : ∃ A : Nat → Prop, A = (fun _ => False) := ⟨_, rfl⟩
  rw [← hAe] at B
  have hS : Sx A s s.heap [] := Sx.rf
  generalize ([] : List Loc) = locs at hS ⊢
  have hAn : ∀ q, ¬ A q := fun q h => by rw [hAe] at h; exact h
  have hA0 : ∀ q, A q → w.b0 ≤ q := fun q h => (hAn q h).elim
  have hSl := hS.le
  obtain ⟨h_d, h_lt, h_t⟩ := h_p
  obtain ⟨hw, hL, hcm, hn1, hn40⟩ := hwx
  refine lv_iload_n S.1 S.2.1 dX11_value_0 rfl (lv_at hl 2 rfl) ?_
  refine lv_aload_n S.1 S.2.1 dX11_value_1 rfl (lv_at hl 0 rfl) ?_
  refine x_get S cc_X11 h_d hK (v := .ref lt) 1 (by decide) q1158 (fun _ hx => hx) rfl dX11_value_2 ?_
  refine lv_iload_n S.1 S.2.1 dX11_value_5 rfl (lv_at hl 1 rfl) ?_
  refine x_iald S (i := k) (f := L) h_lt hK (by show _ < (_ : Nat); first | assumption | omega) (by first | decide | omega) dX11_value_6 ?_
  refine n_ishr S dX11_value_7 (by omega) (by have := hL k hkc; omega) ?_
  refine lv_iconst (v := (nI 1)) S.1 S.2.1 dX11_value_8 (by decide) ?_
  refine n_iand S dX11_value_9 ?_
  refine lv_iconst (v := (nI 1)) S.1 S.2.1 dX11_value_10 (by decide) ?_
  suffices j_2 : W p l e rm_X11_value s m a below meth c s.heap locs 0 0 Q (F0 m 19 ls [.int (nI (Bool.toNat (decide (((v >>> (L k)) &&& 1) = 1))))]) by
    refine n_icmp_ne (tgt := 18) S dX11_value_11 (by decide) (by first | omega | assumption | exact b_lt _ | exact Nat.lt_of_le_of_lt Nat.and_le_right (by decide) | exact Nat.lt_of_le_of_lt Nat.and_le_right (by omega) | exact Nat.lt_of_le_of_lt Nat.and_le_left (by omega)) (by decide) (fun h_1 => ?_) (fun h_1 => ?_)
    · skip
      refine lv_iconst (v := (nI 0)) S.1 S.2.1 dX11_value_18 (by decide) ?_
      refine W.eq ?_ j_2
      first | (simp only [h_1, eq_self, decide_true, decide_false, if_true, if_false, reduceIte, Bool.not_true, Bool.not_false, Bool.true_and, Bool.false_and, Bool.and_true, Bool.and_false, Bool.true_or, Bool.false_or, Bool.or_true, Bool.or_false, Bool.toNat_true, Bool.toNat_false, Bool.false_eq_true, Bool.true_eq_false, not_true_eq_false, not_false_eq_true]; done) | (simp [h_1]; done)
    · skip
      refine lv_iconst (v := (nI 1)) S.1 S.2.1 dX11_value_14 (by decide) ?_
      refine lv_goto (tgt := 19) S.1 S.2.1 dX11_value_15 (by decide) ?_
      refine W.eq ?_ j_2
      first | (simp only [h_1, eq_self, decide_true, decide_false, if_true, if_false, reduceIte, Bool.not_true, Bool.not_false, Bool.true_and, Bool.false_and, Bool.and_true, Bool.and_false, Bool.true_or, Bool.false_or, Bool.or_true, Bool.or_false, Bool.toNat_true, Bool.toNat_false, Bool.false_eq_true, Bool.true_eq_false, not_true_eq_false, not_false_eq_true]; done) | (simp [h_1]; done)
  have er : (decide (((v >>> (L k)) &&& 1) = 1)) = (v.testBit (L k)) := by rw [tb_eq]
  exact r_iret S B hS dX11_value_19 (nar_b _) (Nat.le_of_ble_eq_true rfl) (Nat.le_of_ble_eq_true rfl) (congrArg (fun z : Bool => some (Value.int (nI z.toNat))) er)

abbrev rm_X11_values : Room := { frames := 1, cells := 0, slots := 0, locals := 22 }
set_option maxHeartbeats 4000000 in
theorem cx_X11_values (l : Launch) (w : Wd) (d : Nat) (lt : Nat) (ts : Nat) (nd : Nat → Nat) (K : Nat → Nat) (O : Nat → Nat) (T : Nat → Nat) (L : Nat → Nat) (n : Nat) (cm : Nat) (v : Nat) (hwx : wfX K O T L n cm) (hv : v < 16) : Ctr (GX w) l yX11_values cX11_values 4 (some .int) rm_X11_values [.ref d, .int (nI v)] (fun H => DP w d lt ts nd K O T L n cm H) (fun _ vR _ => vR = some (.int (nI (vlF L cm v)))) (fun _ => False) := by
  refine Ctr.mk (by decide +kernel) (Nat.le_of_ble_eq_true rfl) ?_
  intro p e s m a below meth c Q ls S B hin hG hP hl
  have S : CallFix p m c cX11_values 4 s a lw_all RX11 := S
  have hl : lv_has ls 4 [(0, .ref d), (1, .int (nI v))] := hl
  have hK := hG.kn
  have h_p := hP
  obtain ⟨A, hAe⟩ : ∃ A : Nat → Prop, A = (fun _ => False) := ⟨_, rfl⟩
  rw [← hAe] at B
  have hS : Sx A s s.heap [] := Sx.rf
  generalize ([] : List Loc) = locs at hS ⊢
  have hAn : ∀ q, ¬ A q := fun q h => by rw [hAe] at h; exact h
  have hA0 : ∀ q, A q → w.b0 ≤ q := fun q h => (hAn q h).elim
  have hSl := hS.le
  obtain ⟨h_d, h_lt, h_t⟩ := h_p
  obtain ⟨hw, hL, hcm, hn1, hn40⟩ := hwx
  refine lv_iconst (v := (nI 0)) S.1 S.2.1 dX11_values_0 (by decide) ?_
  refine lv_istore_n (lv' := [(2, .int (nI 0)), (0, .ref d), (1, .int (nI v))]) S.1 S.2.1 dX11_values_1 rfl hl (by decide) rfl (fun ls hl => ?_)
  refine lv_iconst (v := (nI 0)) S.1 S.2.1 dX11_values_2 (by decide) ?_
  refine lv_istore_n (lv' := [(3, .int (nI 0)), (2, .int (nI 0)), (0, .ref d), (1, .int (nI v))]) S.1 S.2.1 dX11_values_3 rfl hl (by decide) rfl (fun ls hl => ?_)
  have loop4 : ∀ (n_1 : Nat) (i : Nat), cm - i < n_1 → ∀ (hi : i ≤ cm) (H : Heap) (locs : List Loc) (_ : Sx A s H locs) (ls : Array Slot), lv_has ls 4 [(0, .ref d), (1, .int (nI v)), (2, .int (nI (bitsTo (fun c => Nat.testBit v (L c)) i))), (3, .int (nI i))] → W p l e rm_X11_values s m a below meth c H locs 0 0 Q (F0 m 4 ls []) := by
    intro n_1
    induction n_1 with
    | zero => intro i hz; exact absurd hz (Nat.not_lt_zero _)
    | succ n_1 ih4 =>
      intro i hm4 hi H locs  hS ls hl
      have hSl := hS.le
      refine lv_iload_n S.1 S.2.1 dX11_values_4 rfl (lv_at hl 3 rfl) ?_
      refine lv_aload_n S.1 S.2.1 dX11_values_5 rfl (lv_at hl 0 rfl) ?_
      refine x_get S cc_X11 (va_at.old h_d hS (hAn _)) hK (v := .ref lt) 1 (by decide) q1158 (fun _ hx => hx) rfl dX11_values_6 ?_
      refine x_alen S 0 (ty := .int) (va_at.old h_lt hS (hAn _)) hK rfl dX11_values_9 ?_
      refine W.eq (g2 := F0 m 10 ls [.int (nI cm), .int (nI i)]) rfl ?_
      refine n_icmp_ge (tgt := 38) S dX11_values_10 (by decide) (by first | omega | assumption | exact b_lt _ | exact Nat.lt_of_le_of_lt Nat.and_le_right (by decide) | exact Nat.lt_of_le_of_lt Nat.and_le_right (by omega) | exact Nat.lt_of_le_of_lt Nat.and_le_left (by omega)) (by first | omega | assumption | exact b_lt _ | exact Nat.lt_of_le_of_lt Nat.and_le_right (by decide) | exact Nat.lt_of_le_of_lt Nat.and_le_right (by omega) | exact Nat.lt_of_le_of_lt Nat.and_le_left (by omega)) (fun h_2 => ?_) (fun h_2 => ?_)
      · skip
        refine lv_iload_n S.1 S.2.1 dX11_values_38 rfl (lv_at hl 2 rfl) ?_
        have er : (bitsTo (fun c => Nat.testBit v (L c)) i) = (vlF L cm v) := by 
          have e0 : i = cm := by omega
          rw [e0]; rfl
        exact r_iret S B hS dX11_values_39 rfl (Nat.le_of_ble_eq_true rfl) (Nat.le_of_ble_eq_true rfl) (congrArg (fun z : Nat => some (Value.int (nI z))) er)
      · skip
        refine lv_iload_n S.1 S.2.1 dX11_values_13 rfl (lv_at hl 2 rfl) ?_
        refine lv_aload_n S.1 S.2.1 dX11_values_14 rfl (lv_at hl 0 rfl) ?_
        refine lv_iload_n S.1 S.2.1 dX11_values_15 rfl (lv_at hl 3 rfl) ?_
        refine lv_iload_n S.1 S.2.1 dX11_values_16 rfl (lv_at hl 1 rfl) ?_
        refine r_callV S (C := "ConditionWise$Decision") (cx_X11_value l w d lt ts nd K O T L n cm v i ⟨hw, hL, hcm, hn1, hn40⟩ hv (show i < cm by omega)) (lw_V q1426 q1427 q1428 q93 q1429) ⟨rfl, by decide +kernel, by decide +kernel, by show _ = some 2; decide +kernel⟩ ⟨Nat.le_of_ble_eq_true rfl, Nat.le_of_ble_eq_true rfl⟩ (r_recv (va_at.old h_d hS (hAn _)) hK (q := (RX11, TX11, 3)) rfl) (GX.blind w) (hG.at hS hA0) (DP.mono hP (fun q _ hz => hS.old hz (hAn q)) hS.le) hl.1 (rest := [.int (nI (bitsTo (fun c => Nat.testBit v (L c)) i))]) rfl (Nat.le_of_ble_eq_true rfl) dX11_values_17 ⟨(Nat.le_of_ble_eq_true rfl), (Nat.le_of_ble_eq_true rfl)⟩ hS (fun _ h => h.elim) (fun vR H locs hp hz hk hS => ?_)
        subst hp
        have hSl := hS.le
        refine W.eq (g2 := F0 m 20 ls [.int (nI (Bool.toNat (v.testBit (L i)))), .int (nI (bitsTo (fun c => Nat.testBit v (L c)) i))]) rfl ?_
        suffices j_4 : W p l e rm_X11_values s m a below meth c H locs 0 0 Q (F0 m 30 ls [.int (nI (if (v.testBit (L i)) = true then 1 <<< i else 0)), .int (nI (bitsTo (fun c => Nat.testBit v (L c)) i))]) by
          refine b_if_eq (tgt := 29) S dX11_values_20 (by decide) (fun h_3 => ?_) (fun h_3 => ?_)
          · skip
            refine lv_iconst (v := (nI 0)) S.1 S.2.1 dX11_values_29 (by decide) ?_
            refine W.eq ?_ j_4
            first | (simp only [h_3, eq_self, decide_true, decide_false, if_true, if_false, reduceIte, Bool.not_true, Bool.not_false, Bool.true_and, Bool.false_and, Bool.and_true, Bool.and_false, Bool.true_or, Bool.false_or, Bool.or_true, Bool.or_false, Bool.toNat_true, Bool.toNat_false, Bool.false_eq_true, Bool.true_eq_false, not_true_eq_false, not_false_eq_true]; done) | (simp [h_3]; done)
          · skip
            refine lv_iconst (v := (nI 1)) S.1 S.2.1 dX11_values_23 (by decide) ?_
            refine lv_iload_n S.1 S.2.1 dX11_values_24 rfl (lv_at hl 3 rfl) ?_
            refine n_ishl S dX11_values_25 (by omega) ?_
            refine lv_goto (tgt := 30) S.1 S.2.1 dX11_values_26 (by decide) ?_
            refine W.eq ?_ j_4
            first | (simp only [h_3, eq_self, decide_true, decide_false, if_true, if_false, reduceIte, Bool.not_true, Bool.not_false, Bool.true_and, Bool.false_and, Bool.and_true, Bool.and_false, Bool.true_or, Bool.false_or, Bool.or_true, Bool.or_false, Bool.toNat_true, Bool.toNat_false, Bool.false_eq_true, Bool.true_eq_false, not_true_eq_false, not_false_eq_true]; done) | (simp [h_3]; done)
        refine n_ior S dX11_values_30 ?_
        refine lv_istore_n (lv' := [(2, .int (nI ((bitsTo (fun c => Nat.testBit v (L c)) i) ||| (if (v.testBit (L i)) = true then 1 <<< i else 0)))), (0, .ref d), (1, .int (nI v)), (3, .int (nI i))]) S.1 S.2.1 dX11_values_31 rfl hl (by decide) rfl (fun ls hl => ?_)
        refine lv_iinc (v := (nI (i + 1))) (lv' := [(3, .int (nI (i + 1))), (2, .int (nI ((bitsTo (fun c => Nat.testBit v (L c)) i) ||| (if (v.testBit (L i)) = true then 1 <<< i else 0)))), (0, .ref d), (1, .int (nI v))]) S.1 S.2.1 dX11_values_32 hl (k := 3) rfl (nI_add _ _) (by decide) rfl (fun ls hl => ?_)
        refine lv_goto (tgt := 4) S.1 S.2.1 dX11_values_35 (by decide) ?_
        exact ih4 (i + 1) (by omega) (by first | rfl | omega | assumption) _ _  hS _ (lv_sub hl [2, 3, 1, 0] rfl)
  exact loop4 _ 0 (Nat.lt_succ_self _) (by first | rfl | omega | assumption) _ _  hS _ (lv_sub hl [2, 3, 1, 0] rfl)

abbrev rm_X11_state : Room := { frames := 61, cells := 3, slots := 7, locals := 2023 }
set_option maxHeartbeats 4000000 in
theorem cx_X11_state (l : Launch) (w : Wd) (d : Nat) (lt : Nat) (ts : Nat) (nd : Nat → Nat) (K : Nat → Nat) (O : Nat → Nat) (T : Nat → Nat) (L : Nat → Nat) (n : Nat) (cm : Nat) (v : Nat) (k : Nat) (hwx : wfX K O T L n cm) (hv : v < 16) (hkc : k < cm) : Ctr (GX w) l yX11_state cX11_state 3 (some .int) rm_X11_state [.ref d, .int (nI k), .int (nI v)] (fun H => DP w d lt ts nd K O T L n cm H) (fun _ vR _ => vR = some (.int (nI (if Nat.testBit (EV K O T (vlF L cm v) (n - 1)).2 k = true then (if v.testBit (L k) = true then 1 else 0) else 2)))) (fun _ => False) := by
  refine Ctr.mk (by decide +kernel) (Nat.le_of_ble_eq_true rfl) ?_
  intro p e s m a below meth c Q ls S B hin hG hP hl
  have S : CallFix p m c cX11_state 3 s a lw_all RX11 := S
  have hl : lv_has ls 3 [(0, .ref d), (1, .int (nI k)), (2, .int (nI v))] := hl
  have hK := hG.kn
  have h_p := hP
  obtain ⟨A, hAe⟩ : ∃ A : Nat → Prop, A = (fun _ => False) := ⟨_, rfl⟩
  rw [← hAe] at B
  have hS : Sx A s s.heap [] := Sx.rf
  generalize ([] : List Loc) = locs at hS ⊢
  have hAn : ∀ q, ¬ A q := fun q h => by rw [hAe] at h; exact h
  have hA0 : ∀ q, A q → w.b0 ≤ q := fun q h => (hAn q h).elim
  have hSl := hS.le
  obtain ⟨h_d, h_lt, h_t⟩ := h_p
  obtain ⟨hw, hL, hcm, hn1, hn40⟩ := hwx
  refine lv_aload_n S.1 S.2.1 dX11_state_0 rfl (lv_at hl 0 rfl) ?_
  refine lv_iload_n S.1 S.2.1 dX11_state_1 rfl (lv_at hl 2 rfl) ?_
  refine r_callV S (C := "ConditionWise$Decision") (cx_X11_asked l w d lt ts nd K O T L n cm v ⟨hw, hL, hcm, hn1, hn40⟩ hv) (lw_V q1418 q1419 q1420 q93 q1421) ⟨rfl, by decide +kernel, by decide +kernel, by show _ = some 1; decide +kernel⟩ ⟨Nat.le_of_ble_eq_true rfl, Nat.le_of_ble_eq_true rfl⟩ (r_recv h_d hK (q := (RX11, TX11, 3)) rfl) (GX.blind w) (hG.at hS hA0) (DP.mono hP (fun q _ hz => hS.old hz (hAn q)) hS.le) hl.1 (rest := []) rfl (Nat.le_of_ble_eq_true rfl) dX11_state_2 ⟨(Nat.le_of_ble_eq_true rfl), (Nat.le_of_ble_eq_true rfl)⟩ hS (fun _ h => h.elim) (fun vR H locs hp hz hk hS => ?_)
  obtain ⟨bs_1, wd_2, rfl, hn_bs_1, hn_wd_2, ne_3, h_b_4⟩ := hp
  have le_bs_1 : s.heap.size ≤ bs_1 := hn_bs_1
  have le_wd_2 : s.heap.size ≤ wd_2 := hn_wd_2
  have hSl := hS.le
  refine W.eq (g2 := F0 m 5 ls [.ref bs_1]) rfl ?_
  refine lv_iload_n S.1 S.2.1 dX11_state_5 rfl (lv_at hl 1 rfl) ?_
  refine r_callV S (C := "java/util/BitSet") (cx_J28_get l w bs_1 wd_2 ((EV K O T (vlF L cm v) (n - 1)).2) k (show k < 8 by omega)) (lw_V q1422 q1423 q1424 q98 q1425) ⟨rfl, by decide +kernel, by decide +kernel, by show _ = some 1; decide +kernel⟩ ⟨Nat.le_of_ble_eq_true rfl, Nat.le_of_ble_eq_true rfl⟩ (bsP.rv h_b_4 hK) (GX.blind w) (hG.at hS hA0) h_b_4 hl.1 (rest := []) rfl (Nat.le_of_ble_eq_true rfl) dX11_state_6 ⟨(Nat.le_of_ble_eq_true rfl), (Nat.le_of_ble_eq_true rfl)⟩ hS (fun _ h => h.elim) (fun vR H locs hp hz hk hS => ?_)
  subst hp
  have h_b_4 : bsP w bs_1 wd_2 ((EV K O T (vlF L cm v) (n - 1)).2) H := bsP.mono h_b_4 (hk _ (bsP.lt h_b_4).1 (fun h => h)) (hk _ (bsP.lt h_b_4).2 (fun h => h))
  have hSl := hS.le
  refine W.eq (g2 := F0 m 9 ls [.int (nI (Bool.toNat (((EV K O T (vlF L cm v) (n - 1)).2).testBit k)))]) rfl ?_
  refine b_if_ne (tgt := 16) S dX11_state_9 (by decide) (fun h_5 => ?_) (fun h_5 => ?_)
  · skip
    refine lv_aload_n S.1 S.2.1 dX11_state_16 rfl (lv_at hl 0 rfl) ?_
    refine lv_iload_n S.1 S.2.1 dX11_state_17 rfl (lv_at hl 1 rfl) ?_
    refine lv_iload_n S.1 S.2.1 dX11_state_18 rfl (lv_at hl 2 rfl) ?_
    refine r_callV S (C := "ConditionWise$Decision") (cx_X11_value l w d lt ts nd K O T L n cm v k ⟨hw, hL, hcm, hn1, hn40⟩ hv hkc) (lw_V q1426 q1427 q1428 q93 q1429) ⟨rfl, by decide +kernel, by decide +kernel, by show _ = some 2; decide +kernel⟩ ⟨Nat.le_of_ble_eq_true rfl, Nat.le_of_ble_eq_true rfl⟩ (r_recv (va_at.old h_d hS (hAn _)) hK (q := (RX11, TX11, 3)) rfl) (GX.blind w) (hG.at hS hA0) (DP.mono hP (fun q _ hz => hS.old hz (hAn q)) hS.le) hl.1 (rest := []) rfl (Nat.le_of_ble_eq_true rfl) dX11_state_19 ⟨(Nat.le_of_ble_eq_true rfl), (Nat.le_of_ble_eq_true rfl)⟩ hS (fun _ h => h.elim) (fun vR H locs hp hz hk hS => ?_)
    subst hp
    have h_b_4 : bsP w bs_1 wd_2 ((EV K O T (vlF L cm v) (n - 1)).2) H := bsP.mono h_b_4 (hk _ (bsP.lt h_b_4).1 (fun h => h)) (hk _ (bsP.lt h_b_4).2 (fun h => h))
    have hSl := hS.le
    refine W.eq (g2 := F0 m 22 ls [.int (nI (Bool.toNat (v.testBit (L k))))]) rfl ?_
    suffices j_7 : W p l e rm_X11_state s m a below meth c H locs 3 7 Q (F0 m 30 ls [.int (nI (Bool.toNat (v.testBit (L k))))]) by
      refine b_if_eq (tgt := 29) S dX11_state_22 (by decide) (fun h_6 => ?_) (fun h_6 => ?_)
      · skip
        refine lv_iconst (v := (nI 0)) S.1 S.2.1 dX11_state_29 (by decide) ?_
        refine W.eq ?_ j_7
        first | (simp only [h_6, eq_self, decide_true, decide_false, if_true, if_false, reduceIte, Bool.not_true, Bool.not_false, Bool.true_and, Bool.false_and, Bool.and_true, Bool.and_false, Bool.true_or, Bool.false_or, Bool.or_true, Bool.or_false, Bool.toNat_true, Bool.toNat_false, Bool.false_eq_true, Bool.true_eq_false, not_true_eq_false, not_false_eq_true]; done) | (simp [h_6]; done)
      · skip
        refine lv_iconst (v := (nI 1)) S.1 S.2.1 dX11_state_25 (by decide) ?_
        refine lv_goto (tgt := 30) S.1 S.2.1 dX11_state_26 (by decide) ?_
        refine W.eq ?_ j_7
        first | (simp only [h_6, eq_self, decide_true, decide_false, if_true, if_false, reduceIte, Bool.not_true, Bool.not_false, Bool.true_and, Bool.false_and, Bool.and_true, Bool.and_false, Bool.true_or, Bool.false_or, Bool.or_true, Bool.or_false, Bool.toNat_true, Bool.toNat_false, Bool.false_eq_true, Bool.true_eq_false, not_true_eq_false, not_false_eq_true]; done) | (simp [h_6]; done)
    have er : (Bool.toNat (v.testBit (L k))) = (if Nat.testBit (EV K O T (vlF L cm v) (n - 1)).2 k = true then (if v.testBit (L k) = true then 1 else 0) else 2) := by first | rfl | (simp [h_5]; done) | (cases v.testBit (L k) <;> simp [h_5])
    exact r_iret S B hS dX11_state_30 rfl (Nat.le_of_ble_eq_true rfl) (Nat.le_of_ble_eq_true rfl) (congrArg (fun z : Nat => some (Value.int (nI z))) er)
  · skip
    refine lv_iconst (v := (nI 2)) S.1 S.2.1 dX11_state_12 (by decide) ?_
    refine lv_goto (tgt := 30) S.1 S.2.1 dX11_state_13 (by decide) ?_
    have er : (2) = (if Nat.testBit (EV K O T (vlF L cm v) (n - 1)).2 k = true then (if v.testBit (L k) = true then 1 else 0) else 2) := by first | rfl | (simp [h_5]; done) | (cases v.testBit (L k) <;> simp [h_5])
    exact r_iret S B hS dX11_state_30 rfl (Nat.le_of_ble_eq_true rfl) (Nat.le_of_ble_eq_true rfl) (congrArg (fun z : Nat => some (Value.int (nI z))) er)
