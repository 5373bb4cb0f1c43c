set_option maxRecDepth 100000
abbrev rm_J5_get : Room := { frames := 2, cells := 0, slots := 0, locals := 42 }
set_option maxHeartbeats 4000000 in
theorem cx_J5_get (l : Launch) (w : Wd) (ll : Nat) (mc : Nat) (sz : Nat) (ln : Nat → Nat) (it : Nat → Nat) (i : Nat) (his : i < sz) (hsb : sz < 2147483648) : Ctr (GX w) l yJ5_get cJ5_get 2 (some (.object "java/lang/Object")) rm_J5_get [.ref ll, .int (nI i)] (fun H => LLP w ll mc sz ln it H) (fun _ vR _ => vR = some (.ref (it i))) (fun _ => False) := by
  refine Ctr.mk (by decide +kernel) (Nat.le_of_ble_eq_true rfl) ?_
  intro p e s m a below meth c Q ls S B hin hG hP hl
  have S : CallFix p m c cJ5_get 2 s a lw_all RJ5 := S
  have hl : lv_has ls 2 [(0, .ref ll), (1, .int (nI i))] := hl
  have hK := hG.kn
  have h_q := hP
  obtain ⟨A, hAe⟩ : ∃ A : Nat → Prop, A = (fun _ => False) := ⟨_, rfl⟩
  rw [← hAe] at B
  have hS : Sx A s s.heap [] := Sx.rf
  generalize ([] : List Loc) = locs at hS ⊢
  have hAn : ∀ q, ¬ A q := fun q h => by rw [hAe] at h; exact h
  have hA0 : ∀ q, A q → w.b0 ≤ q := fun q h => (hAn q h).elim
  have hSl := hS.le
  have h_ll : va_at w.D clA (ll, .inr (4, [.int (nI mc), .int (nI sz), .ref (ln 0), .ref (ln (sz - 1))])) s.heap := by have := h_q.1; unfold llV at this; rw [if_pos (show 0 < sz by omega), if_pos (show 0 < sz by omega)] at this; exact this
  have hnod := h_q.2
  refine lv_aload_n S.1 S.2.1 dJ5_get_0 rfl (lv_at hl 0 rfl) ?_
  refine lv_iload_n S.1 S.2.1 dJ5_get_1 rfl (lv_at hl 1 rfl) ?_
  refine r_callV S (C := "java/util/LinkedList") (cx_J5_checkElementIndex l w ll mc sz (Value.ref (ln 0)) (Value.ref (ln (sz - 1))) i his hsb) (lw_V q259 q261 qs1 q61 q262) ⟨rfl, by decide +kernel, by decide +kernel, by show _ = some 1; decide +kernel⟩ ⟨Nat.le_of_ble_eq_true rfl, Nat.le_of_ble_eq_true rfl⟩ (r_recv h_ll hK (q := (RJ5, TJ5, 4)) rfl) (GX.blind w) (hG.at hS hA0) h_ll hl.1 (rest := []) rfl (Nat.le_of_ble_eq_true rfl) dJ5_get_2 ⟨(Nat.le_of_ble_eq_true rfl), (Nat.le_of_ble_eq_true rfl)⟩ hS (fun _ h => h.elim) (fun vR H locs hp hz hk hS => ?_)
  subst hp
  have hSl := hS.le
  refine W.eq (g2 := F0 m 5 ls []) rfl ?_
  refine lv_aload_n S.1 S.2.1 dJ5_get_5 rfl (lv_at hl 0 rfl) ?_
  refine lv_iload_n S.1 S.2.1 dJ5_get_6 rfl (lv_at hl 1 rfl) ?_
  refine r_callV S (C := "java/util/LinkedList") (cx_J5_node l w ll mc sz ln it i his hsb) (lw_V q602 q603 q604 q61 q605) ⟨rfl, by decide +kernel, by decide +kernel, by show _ = some 1; decide +kernel⟩ ⟨Nat.le_of_ble_eq_true rfl, Nat.le_of_ble_eq_true rfl⟩ (r_recv (va_at.old h_ll hS (hAn _)) hK (q := (RJ5, TJ5, 4)) rfl) (GX.blind w) (hG.at hS hA0) (LLP.mono h_q (fun q hq hz => hS.old hz (hAn _))) hl.1 (rest := []) rfl (Nat.le_of_ble_eq_true rfl) dJ5_get_7 ⟨(Nat.le_of_ble_eq_true rfl), (Nat.le_of_ble_eq_true rfl)⟩ hS (fun _ h => h.elim) (fun vR H locs hp hz hk hS => ?_)
  subst hp
  have hSl := hS.le
  refine W.eq (g2 := F0 m 10 ls [.ref (ln i)]) rfl ?_
  have h_n : va_at w.D clA (ln i, .inr (5, [.ref (it i), if i + 1 < sz then .ref (ln (i + 1)) else .null, if 0 < i then .ref (ln (i - 1)) else .null])) s.heap := by have q := hnod i (by omega); unfold llN at q; skip; exact q
  refine x_get S cc_J14 (va_at.old h_n hS (hAn _)) hK (v := .ref (it i)) 0 (by decide) q756 (fun _ hx => hx) rfl dJ5_get_10 ?_
  exact r_aret S B hS dJ5_get_13 (Or.inl ⟨_, rfl⟩) (Or.inr ⟨_, rfl⟩) (Nat.le_of_ble_eq_true rfl) (Nat.le_of_ble_eq_true rfl) rfl
