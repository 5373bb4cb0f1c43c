set_option maxRecDepth 100000
/-! linked lists -/
def llN (ln it : Nat → Nat) (sz i : Nat) : va_E := .inr (5, [.ref (it i), if i + 1 < sz then .ref (ln (i + 1)) else .null, if 0 < i then .ref (ln (i - 1)) else .null])
def llV (sz a : Nat) : Value := if 0 < sz then .ref a else .null
def LLP (w : Wd) (ll mc sz : Nat) (ln it : Nat → Nat) (H : Heap) : Prop := va_at w.D clA (ll, .inr (4, [.int (nI mc), .int (nI sz), llV sz (ln 0), llV sz (ln (sz - 1))])) H ∧ ∀ i, i < sz → va_at w.D clA (ln i, llN ln it sz i) H
theorem LLP.mono {w : Wd} {ll mc sz : Nat} {ln it : Nat → Nat} {H H1 : Heap} (h : LLP w ll mc sz ln it H) (hq : ∀ q, True → q < H.size → H1[q]? = H[q]?) : LLP w ll mc sz ln it H1 := ⟨h.1.kept (hq _ trivial h.1.lt), fun i hi => (h.2 i hi).kept (hq _ trivial (h.2 i hi).lt)⟩
abbrev rm_J5_node : Room := { frames := 0, cells := 0, slots := 0, locals := 0 }
set_option maxHeartbeats 4000000 in
theorem cx_J5_node (l : Launch) (w : Wd) (ll : Nat) (mc : Nat) (sz : Nat) (ln : Nat → Nat) (it : Nat → Nat) (i : Nat) (his : i < sz) (hsb : sz < 2147483648) : Ctr (GX w) l yJ5_node cJ5_node 4 (some (.object "java/util/LinkedList$Node")) rm_J5_node [.ref ll, .int (nI i)] (fun H => LLP w ll mc sz ln it H) (fun _ vR _ => vR = some (.ref (ln i))) (fun _ => False) := by
  refine Ctr.mk (by decide +kernel) (Nat.le_of_ble_eq_true rfl) ?_
  intro p e s m a below meth c Q ls S B hin hG hP hl
  have S : CallFix p m c cJ5_node 4 s a lw_all RJ5 := S
  have hl : lv_has ls 4 [(0, .ref ll), (1, .int (nI i))] := hl
  have hK := hG.kn
  have h_q := hP
  obtain ⟨A, hAe⟩ : ∃ A : Nat → Prop, A = (fun _ => False) := ⟨_, rfl⟩
  rw [← hAe] at B
  have hS : Sx A s s.heap [] := Sx.rf
  generalize ([] : List Loc) = locs at hS ⊢
  have hAn : ∀ q, ¬ A q := fun q h => by rw [hAe] at h; exact h
  have hA0 : ∀ q, A q → w.b0 ≤ q := fun q h => (hAn q h).elim
  have hSl := hS.le
  have h_ll : va_at w.D clA (ll, .inr (4, [.int (nI mc), .int (nI sz), .ref (ln 0), .ref (ln (sz - 1))])) s.heap := by have := h_q.1; unfold llV at this; rw [if_pos (show 0 < sz by omega), if_pos (show 0 < sz by omega)] at this; exact this
  have hnod := h_q.2
  refine lv_iload_n S.1 S.2.1 dJ5_node_0 rfl (lv_at hl 1 rfl) ?_
  refine lv_aload_n S.1 S.2.1 dJ5_node_1 rfl (lv_at hl 0 rfl) ?_
  refine x_get S cc_J5 h_ll hK (v := .int (nI sz)) 1 (by decide) q166 (fun _ hx => hx) rfl dJ5_node_2 ?_
  refine lv_iconst (v := (nI 1)) S.1 S.2.1 dJ5_node_5 (by decide) ?_
  refine n_ishr S dJ5_node_6 (by omega) (by omega) ?_
  refine n_icmp_ge (tgt := 35) S dJ5_node_7 (by decide) (by omega) (by omega) (fun h_1 => ?_) (fun h_1 => ?_)
  · skip
    refine lv_aload_n S.1 S.2.1 dJ5_node_35 rfl (lv_at hl 0 rfl) ?_
    refine x_get S cc_J5 h_ll hK (v := .ref (ln (sz - 1))) 3 (by decide) q168 (fun _ hx => hx) rfl dJ5_node_36 ?_
    refine lv_astore_n (lv' := [(2, .ref (ln (sz - 1))), (0, .ref ll), (1, .int (nI i))]) S.1 S.2.1 dJ5_node_39 rfl hl (by decide) rfl (fun ls hl => ?_)
    refine lv_aload_n S.1 S.2.1 dJ5_node_40 rfl (lv_at hl 1 rfl) ?_
    refine x_get S cc_J5 h_ll hK (v := .int (nI sz)) 1 (by decide) q166 (fun _ hx => hx) rfl dJ5_node_41 ?_
    refine lv_iconst (v := (nI 1)) S.1 S.2.1 dJ5_node_44 (by decide) ?_
    refine n_isub S dJ5_node_45 (by omega) ?_
    refine lv_istore_n (lv' := [(3, .int (nI (sz - 1))), (2, .ref (ln (sz - 1))), (0, .ref ll), (1, .int (nI i))]) S.1 S.2.1 dJ5_node_46 rfl hl (by decide) rfl (fun ls hl => ?_)
    have loop47 : ∀ (n_2 : Nat) (k : Nat), k < n_2 → ∀ (hki : i ≤ k) (hks : k < sz) (H : Heap) (locs : List Loc) (_ : Sx A s H locs) (ls : Array Slot), lv_has ls 4 [(0, .ref ll), (1, .int (nI i)), (2, .ref (ln k)), (3, .int (nI k))] → W p l e rm_J5_node s m a below meth c H locs 0 0 Q (F0 m 47 ls []) := by
      intro n_2
      induction n_2 with
      | zero => intro k hz; exact absurd hz (Nat.not_lt_zero _)
      | succ n_2 ih47 =>
        intro k hm47 hki hks H locs  hS ls hl
        have hSl := hS.le
        refine lv_iload_n S.1 S.2.1 dJ5_node_47 rfl (lv_at hl 3 rfl) ?_
        refine lv_iload_n S.1 S.2.1 dJ5_node_48 rfl (lv_at hl 1 rfl) ?_
        refine n_icmp_le (tgt := 63) S dJ5_node_49 (by decide) (by omega) (by omega) (fun h_3 => ?_) (fun h_3 => ?_)
        · skip
          refine lv_aload_n S.1 S.2.1 dJ5_node_63 rfl (lv_at hl 2 rfl) ?_
          exact r_aret S B hS dJ5_node_64 (Or.inl ⟨_, rfl⟩) (Or.inr ⟨_, rfl⟩) (Nat.le_of_ble_eq_true rfl) (Nat.le_of_ble_eq_true rfl) (by (have e0 : k = i := by omega); rw [e0])
        · skip
          have h_n : va_at w.D clA (ln k, .inr (5, [.ref (it k), if k + 1 < sz then .ref (ln (k + 1)) else .null, .ref (ln (k - 1))])) s.heap := by have q := hnod k (by omega); unfold llN at q; rw [if_pos (show 0 < k by omega)] at q; exact q
          refine lv_aload_n S.1 S.2.1 dJ5_node_52 rfl (lv_at hl 2 rfl) ?_
          refine x_get S cc_J14 (va_at.old h_n hS (hAn _)) hK (v := .ref (ln (k - 1))) 2 (by decide) q760 (fun _ hx => hx) rfl dJ5_node_53 ?_
          refine lv_astore_n (lv' := [(2, .ref (ln (k - 1))), (0, .ref ll), (1, .int (nI i)), (3, .int (nI k))]) S.1 S.2.1 dJ5_node_56 rfl hl (by decide) rfl (fun ls hl => ?_)
          refine lv_iinc (v := (nI (k - 1))) (lv' := [(3, .int (nI (k - 1))), (2, .ref (ln (k - 1))), (0, .ref ll), (1, .int (nI i))]) S.1 S.2.1 dJ5_node_57 hl (k := 3) rfl (sb_m1 (by omega)) (by decide) rfl (fun ls hl => ?_)
          refine lv_goto (tgt := 47) S.1 S.2.1 dJ5_node_60 (by decide) ?_
          exact ih47 (k - 1) (by omega) (by first | rfl | omega | assumption) (by first | rfl | omega | assumption) _ _  hS _ (lv_sub hl [2, 3, 1, 0] rfl)
    exact loop47 _ (sz - 1) (Nat.lt_succ_self _) (by first | rfl | omega | assumption) (by first | rfl | omega | assumption) _ _  hS _ (lv_sub hl [2, 3, 1, 0] rfl)
  · skip
    refine lv_aload_n S.1 S.2.1 dJ5_node_10 rfl (lv_at hl 0 rfl) ?_
    refine x_get S cc_J5 h_ll hK (v := .ref (ln 0)) 2 (by decide) q167 (fun _ hx => hx) rfl dJ5_node_11 ?_
    refine lv_astore_n (lv' := [(2, .ref (ln 0)), (0, .ref ll), (1, .int (nI i))]) S.1 S.2.1 dJ5_node_14 rfl hl (by decide) rfl (fun ls hl => ?_)
    refine lv_iconst (v := (nI 0)) S.1 S.2.1 dJ5_node_15 (by decide) ?_
    refine lv_istore_n (lv' := [(3, .int (nI 0)), (2, .ref (ln 0)), (0, .ref ll), (1, .int (nI i))]) S.1 S.2.1 dJ5_node_16 rfl hl (by decide) rfl (fun ls hl => ?_)
    have loop17 : ∀ (n_4 : Nat) (k : Nat), i - k < n_4 → ∀ (hki : k ≤ i) (H : Heap) (locs : List Loc) (_ : Sx A s H locs) (ls : Array Slot), lv_has ls 4 [(0, .ref ll), (1, .int (nI i)), (2, .ref (ln k)), (3, .int (nI k))] → W p l e rm_J5_node s m a below meth c H locs 0 0 Q (F0 m 17 ls []) := by
      intro n_4
      induction n_4 with
      | zero => intro k hz; exact absurd hz (Nat.not_lt_zero _)
      | succ n_4 ih17 =>
        intro k hm17 hki H locs  hS ls hl
        have hSl := hS.le
        refine lv_iload_n S.1 S.2.1 dJ5_node_17 rfl (lv_at hl 3 rfl) ?_
        refine lv_iload_n S.1 S.2.1 dJ5_node_18 rfl (lv_at hl 1 rfl) ?_
        refine n_icmp_ge (tgt := 33) S dJ5_node_19 (by decide) (by omega) (by omega) (fun h_5 => ?_) (fun h_5 => ?_)
        · skip
          refine lv_aload_n S.1 S.2.1 dJ5_node_33 rfl (lv_at hl 2 rfl) ?_
          exact r_aret S B hS dJ5_node_34 (Or.inl ⟨_, rfl⟩) (Or.inr ⟨_, rfl⟩) (Nat.le_of_ble_eq_true rfl) (Nat.le_of_ble_eq_true rfl) (by (have e0 : k = i := by omega); rw [e0])
        · skip
          have h_n : va_at w.D clA (ln k, .inr (5, [.ref (it k), .ref (ln (k + 1)), if 0 < k then .ref (ln (k - 1)) else .null])) s.heap := by have q := hnod k (by omega); unfold llN at q; rw [if_pos (show k + 1 < sz by omega)] at q; exact q
          refine lv_aload_n S.1 S.2.1 dJ5_node_22 rfl (lv_at hl 2 rfl) ?_
          refine x_get S cc_J14 (va_at.old h_n hS (hAn _)) hK (v := .ref (ln (k + 1))) 1 (by decide) q758 (fun _ hx => hx) rfl dJ5_node_23 ?_
          refine lv_astore_n (lv' := [(2, .ref (ln (k + 1))), (0, .ref ll), (1, .int (nI i)), (3, .int (nI k))]) S.1 S.2.1 dJ5_node_26 rfl hl (by decide) rfl (fun ls hl => ?_)
          refine lv_iinc (v := (nI (k + 1))) (lv' := [(3, .int (nI (k + 1))), (2, .ref (ln (k + 1))), (0, .ref ll), (1, .int (nI i))]) S.1 S.2.1 dJ5_node_27 hl (k := 3) rfl (nI_add _ _) (by decide) rfl (fun ls hl => ?_)
          refine lv_goto (tgt := 17) S.1 S.2.1 dJ5_node_30 (by decide) ?_
          exact ih17 (k + 1) (by omega) (by first | rfl | omega | assumption) _ _  hS _ (lv_sub hl [2, 3, 1, 0] rfl)
    exact loop17 _ 0 (Nat.lt_succ_self _) (by first | rfl | omega | assumption) _ _  hS _ (lv_sub hl [2, 3, 1, 0] rfl)
