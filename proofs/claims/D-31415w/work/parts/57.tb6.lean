set_option maxRecDepth 100000
abbrev rm_X14_pairUp : Room := { frames := 1, cells := 0, slots := 0, locals := 27 }
set_option maxHeartbeats 4000000 in
theorem cx_X14_pairUp (l : Launch) (w : Wd) (tb : Nat) (d : Nat) (rl : Nat) (al : Nat) (oc : Nat) (vs : Nat) (ak : Nat) (dc : Nat) (pt : Nat) (x0 : Nat) (fO : Nat → Bool) (fV : Nat → Nat) (fA : Nat → Nat) (fD : Nat → Nat) (cm : Nat) (pr : Nat → Nat) (q : Nat) (pq : Nat) (r0 : Nat → Nat) (hcc : q < 8) (hqm : q < cm) (hcm : cm ≤ 8) (hpq : pr q = pq) (hal : al < 65536) (hrl : rl < 3) (hfv : ∀ j, fV j < 256) (hfa : ∀ j, fA j < 256) (hfd : ∀ j, fD j < 256) (hr0 : ∀ k, k < 16 → r0 k = 0) (hn0 : tb ≠ pq) (hn1 : oc ≠ pq) (hn2 : vs ≠ pq) (hn3 : ak ≠ pq) (hn4 : dc ≠ pq) (hn5 : pt ≠ pq) (hb_0 : w.b0 ≤ pq) : Ctr (GX w) l yX14_pairUp cX14_pairUp 4 none rm_X14_pairUp [.ref tb, .int (nI q)] (fun H => va_at w.D clA (tb, .inr (16, [.ref d, .int (nI rl), .int (nI al), .ref oc, .ref vs, .ref ak, .ref dc, .ref pt, .ref x0])) H ∧ va_at w.D clA (oc, .inl (w.dA 1, 16, .inl (fun j => nI (Bool.toNat (fO j))))) H ∧ va_at w.D clA (vs, .inl (w.dA 0, 16, .inl (fun j => nI (fV j)))) H ∧ va_at w.D clA (ak, .inl (w.dA 0, 16, .inl (fun j => nI (fA j)))) H ∧ va_at w.D clA (dc, .inl (w.dA 0, 16, .inl (fun j => nI (fD j)))) H ∧ va_at w.D clA (pt, .inl (w.dA 6, cm, .inr (.inr (.inr (.inr (fun j => some (pr j))))))) H ∧ va_at w.D clA (pq, .inl (w.dA 0, 16, .inl (fun j => nI (r0 j)))) H) (fun _ vR H1 => ∃ (r1 : Nat → Nat), vR = none ∧ (∀ k, k < 16 → r1 k = bitsTo (prB al rl fO fV fA fD q k) 16) ∧ va_at w.D clA (pq, .inl (w.dA 0, 16, .inl (fun j => nI (r1 j)))) H1) (fun q => q = pq) := by
  refine Ctr.mk (by decide +kernel) (Nat.le_of_ble_eq_true rfl) ?_
  intro p e s m a below meth c Q ls S B hin hG hP hl
  have S : CallFix p m c cX14_pairUp 4 s a lw_all RX14 := S
  have hl : lv_has ls 4 [(0, .ref tb), (1, .int (nI q))] := hl
  have hK := hG.kn
  obtain ⟨h_tb, h_oc, h_vs, h_ak, h_dc, h_pt, h_row⟩ := hP
  obtain ⟨A, hAe⟩ : ∃ A : Nat → Prop, A = (fun q => q = pq) := ⟨_, rfl⟩
  rw [← hAe] at B
  have hS : Sx A s s.heap [] := Sx.rf
  generalize ([] : List Loc) = locs at hS ⊢
  have hA0 : ∀ q, A q → w.b0 ≤ q := fun q h => by rw [hAe] at h; exact (fun e => by rw [e]; exact hb_0) h
  have hA_0 : A pq := Eq.mpr (congrFun hAe _) (rfl)
  have hSl := hS.le
  refine lv_iconst (v := (nI 0)) S.1 S.2.1 dX14_pairUp_0 (by decide) ?_
  refine lv_istore_n (lv' := [(2, .int (nI 0)), (0, .ref tb), (1, .int (nI q))]) S.1 S.2.1 dX14_pairUp_1 rfl hl (by decide) rfl (fun ls hl => ?_)
  have loop2 : ∀ (n_1 : Nat) (i : Nat) (rf : Nat → Nat), 16 - i < n_1 → ∀ (hi : i ≤ 16) (hd : ∀ k, k < i → rf k = bitsTo (prB al rl fO fV fA fD q k) 16) (hz0 : ∀ k, i ≤ k → k < 16 → rf k = 0) (H : Heap) (locs : List Loc) (h_row : va_at w.D clA (pq, .inl (w.dA 0, 16, .inl (fun j => nI (rf j)))) H) (_ : Sx A s H locs) (ls : Array Slot), lv_has ls 4 [(0, .ref tb), (1, .int (nI q)), (2, .int (nI i))] → W p l e rm_X14_pairUp s m a below meth c H locs 0 0 Q (F0 m 2 ls []) := by
    intro n_1
    induction n_1 with
    | zero => intro i rf hz; exact absurd hz (Nat.not_lt_zero _)
    | succ n_1 ih2 =>
      intro i rf hm2 hi hd hz0 H locs h_row hS ls hl
      have hSl := hS.le
      refine lv_iload_n S.1 S.2.1 dX14_pairUp_2 rfl (lv_at hl 2 rfl) ?_
      refine lv_bipush (v := (nI 16)) S.1 S.2.1 dX14_pairUp_3 (by decide) ?_
      refine n_icmp_ge (tgt := 56) S dX14_pairUp_5 (by decide) (by omega) (by decide) (fun h_2 => ?_) (fun h_2 => ?_)
      · skip
        exact r_vret S B hS dX14_pairUp_56 (Nat.le_of_ble_eq_true rfl) (Nat.le_of_ble_eq_true rfl) ⟨rf, rfl, (fun k hk => hd k (by omega)), h_row⟩
      · skip
        refine lv_iconst (v := (nI 0)) S.1 S.2.1 dX14_pairUp_8 (by decide) ?_
        refine lv_istore_n (lv' := [(3, .int (nI 0)), (0, .ref tb), (1, .int (nI q)), (2, .int (nI i))]) S.1 S.2.1 dX14_pairUp_9 rfl hl (by decide) rfl (fun ls hl => ?_)
        have loop10 : ∀ (n_3 : Nat) (j : Nat) (rg : Nat → Nat), 16 - j < n_3 → ∀ (hj : j ≤ 16) (hd2 : ∀ k, k < i → rg k = bitsTo (prB al rl fO fV fA fD q k) 16) (hcur : rg i = bitsTo (prB al rl fO fV fA fD q i) j) (hz2 : ∀ k, i < k → k < 16 → rg k = 0) (H : Heap) (locs : List Loc) (h_row : va_at w.D clA (pq, .inl (w.dA 0, 16, .inl (fun j => nI (rg j)))) H) (_ : Sx A s H locs) (ls : Array Slot), lv_has ls 4 [(0, .ref tb), (1, .int (nI q)), (2, .int (nI i)), (3, .int (nI j))] → W p l e rm_X14_pairUp s m a below meth c H locs 0 0 Q (F0 m 10 ls []) := by
          intro n_3
          induction n_3 with
          | zero => intro j rg hz; exact absurd hz (Nat.not_lt_zero _)
          | succ n_3 ih10 =>
            intro j rg hm10 hj hd2 hcur hz2 H locs h_row hS ls hl
            have hSl := hS.le
            refine lv_iload_n S.1 S.2.1 dX14_pairUp_10 rfl (lv_at hl 3 rfl) ?_
            refine lv_bipush (v := (nI 16)) S.1 S.2.1 dX14_pairUp_11 (by decide) ?_
            refine n_icmp_ge (tgt := 50) S dX14_pairUp_13 (by decide) (by omega) (by decide) (fun h_4 => ?_) (fun h_4 => ?_)
            · skip
              refine lv_iinc (v := (nI (i + 1))) (lv' := [(2, .int (nI (i + 1))), (0, .ref tb), (1, .int (nI q)), (3, .int (nI j))]) S.1 S.2.1 dX14_pairUp_50 hl (k := 2) rfl (nI_add _ _) (by decide) rfl (fun ls hl => ?_)
              refine lv_goto (tgt := 2) S.1 S.2.1 dX14_pairUp_53 (by decide) ?_
              exact ih2 (i + 1) rg (by omega) (by omega) (fun k hk => by rcases Nat.lt_or_ge k i with a | a; exact hd2 k a; have e : k = i := (by omega); subst e; have e16 : j = 16 := (by omega); rw [hcur, e16]) (fun k h1 h2 => hz2 k (by omega) h2) _ _ h_row hS _ (lv_sub hl [1, 2, 0] rfl)
            · skip
              refine lv_aload_n S.1 S.2.1 dX14_pairUp_16 rfl (lv_at hl 0 rfl) ?_
              refine x_get S cc_X14 (va_at.old h_tb hS (fun h => by rw [hAe] at h; exact (fun e0 => hn0 e0) h)) hK (v := .ref pt) 7 (by decide) q1550 (fun _ hx => hx) rfl dX14_pairUp_17 ?_
              refine lv_iload_n S.1 S.2.1 dX14_pairUp_20 rfl (lv_at hl 1 rfl) ?_
              refine x_aald S 6 (ty := .array .int) (va_at.old h_pt hS (fun h => by rw [hAe] at h; exact (fun e0 => hn5 e0) h)) hK rfl rfl (i := q) (by show _ < (_ : Nat); first | assumption | omega) (by first | decide | omega) (v := .ref pq) (by show va_rf (some (pr q)) = _; rw [hpq]; rfl) dX14_pairUp_21 ?_
              refine lv_iload_n S.1 S.2.1 dX14_pairUp_22 rfl (lv_at hl 2 rfl) ?_
              refine lv_dup2_11 S.1 S.2.1 dX14_pairUp_23 rfl rfl ?_
              refine x_iald S (i := i) (f := rg) h_row hK (by show _ < (_ : Nat); first | assumption | omega) (by first | decide | omega) dX14_pairUp_24 ?_
              refine lv_aload_n S.1 S.2.1 dX14_pairUp_25 rfl (lv_at hl 0 rfl) ?_
              refine lv_iload_n S.1 S.2.1 dX14_pairUp_26 rfl (lv_at hl 1 rfl) ?_
              refine lv_iload_n S.1 S.2.1 dX14_pairUp_27 rfl (lv_at hl 2 rfl) ?_
              refine lv_iload_n S.1 S.2.1 dX14_pairUp_28 rfl (lv_at hl 3 rfl) ?_
              refine r_callV S (C := "ConditionWise$Table") (cx_X14_isPair l w tb d rl al oc vs ak dc pt x0 fO fV fA fD q i j hcc (show i < 16 by omega) (show j < 16 by omega) hal hrl hfv hfa hfd) (lw_V q1537 q1539 qs25 q100 q1540) ⟨rfl, by decide +kernel, by decide +kernel, by show _ = some 3; decide +kernel⟩ ⟨Nat.le_of_ble_eq_true rfl, Nat.le_of_ble_eq_true rfl⟩ (r_recv (va_at.old h_tb hS (fun h => by rw [hAe] at h; exact (fun e0 => hn0 e0) h)) hK (q := (RX14, TX14, 9)) rfl) (GX.blind w) (hG.at hS hA0) ⟨(va_at.old h_tb hS (fun h => by rw [hAe] at h; exact (fun e0 => hn0 e0) h)), (va_at.old h_oc hS (fun h => by rw [hAe] at h; exact (fun e0 => hn1 e0) h)), (va_at.old h_vs hS (fun h => by rw [hAe] at h; exact (fun e0 => hn2 e0) h)), (va_at.old h_ak hS (fun h => by rw [hAe] at h; exact (fun e0 => hn3 e0) h)), (va_at.old h_dc hS (fun h => by rw [hAe] at h; exact (fun e0 => hn4 e0) h))⟩ hl.1 (rest := [.int (nI (rg i)), .int (nI i), .ref pq]) rfl (Nat.le_of_ble_eq_true rfl) dX14_pairUp_29 ⟨(Nat.le_of_ble_eq_true rfl), (Nat.le_of_ble_eq_true rfl)⟩ hS (fun _ h => h.elim) (fun vR H locs hp hz hk hS => ?_)
              subst hp
              have h_row : va_at w.D clA (pq, .inl (w.dA 0, 16, .inl (fun j => nI (rg j)))) H := kept_of h_row hk (fun h => h)
              have hSl := hS.le
              refine W.eq (g2 := F0 m 32 ls [.int (nI (Bool.toNat (prB al rl fO fV fA fD q i j))), .int (nI (rg i)), .int (nI i), .ref pq]) rfl ?_
              suffices j_6 : W p l e rm_X14_pairUp s m a below meth c H locs 0 0 Q (F0 m 42 ls [.int (nI (if (prB al rl fO fV fA fD q i j) = true then 1 <<< j else 0)), .int (nI (rg i)), .int (nI i), .ref pq]) by
                refine b_if_eq (tgt := 41) S dX14_pairUp_32 (by decide) (fun h_5 => ?_) (fun h_5 => ?_)
                · skip
                  refine lv_iconst (v := (nI 0)) S.1 S.2.1 dX14_pairUp_41 (by decide) ?_
                  refine W.eq ?_ j_6
                  first | (simp only [h_5, eq_self, decide_true, decide_false, if_true, if_false, reduceIte, Bool.not_true, Bool.not_false, Bool.true_and, Bool.false_and, Bool.and_true, Bool.and_false, Bool.true_or, Bool.false_or, Bool.or_true, Bool.or_false, Bool.toNat_true, Bool.toNat_false, Bool.false_eq_true, Bool.true_eq_false, not_true_eq_false, not_false_eq_true]; done) | (simp [h_5]; done)
                · skip
                  refine lv_iconst (v := (nI 1)) S.1 S.2.1 dX14_pairUp_35 (by decide) ?_
                  refine lv_iload_n S.1 S.2.1 dX14_pairUp_36 rfl (lv_at hl 3 rfl) ?_
                  refine n_ishl S dX14_pairUp_37 (by omega) ?_
                  refine lv_goto (tgt := 42) S.1 S.2.1 dX14_pairUp_38 (by decide) ?_
                  refine W.eq ?_ j_6
                  first | (simp only [h_5, eq_self, decide_true, decide_false, if_true, if_false, reduceIte, Bool.not_true, Bool.not_false, Bool.true_and, Bool.false_and, Bool.and_true, Bool.and_false, Bool.true_or, Bool.false_or, Bool.or_true, Bool.or_false, Bool.toNat_true, Bool.toNat_false, Bool.false_eq_true, Bool.true_eq_false, not_true_eq_false, not_false_eq_true]; done) | (simp [h_5]; done)
              refine n_ior S dX14_pairUp_42 ?_
              refine x_iast S (f := rg) h_row hK (i := i) (v := (rg i) ||| (if (prB al rl fO fV fA fD q i j) = true then 1 <<< j else 0)) (by show _ < (_ : Nat); first | assumption | omega) (by first | decide | omega) dX14_pairUp_43 hS (Or.inl hA_0) (fun H locs h_row hz ho hS => ?_)
              refine lv_iinc (v := (nI (j + 1))) (lv' := [(3, .int (nI (j + 1))), (0, .ref tb), (1, .int (nI q)), (2, .int (nI i))]) S.1 S.2.1 dX14_pairUp_44 hl (k := 3) rfl (nI_add _ _) (by decide) rfl (fun ls hl => ?_)
              refine lv_goto (tgt := 10) S.1 S.2.1 dX14_pairUp_47 (by decide) ?_
              exact ih10 (j + 1) (va_up rg i ((rg i) ||| (if (prB al rl fO fV fA fD q i j) = true then 1 <<< j else 0))) (by omega) (by omega) (fun k hk => by rw [va_up, if_neg (by omega)]; exact hd2 k hk) (by rw [va_up, if_pos rfl, hcur]; rfl) (fun k h1 h2 => by rw [va_up, if_neg (by omega)]; exact hz2 k h1 h2) _ _ h_row hS _ (lv_sub hl [1, 2, 3, 0] rfl)
        exact loop10 _ 0 rf (Nat.lt_succ_self _) (Nat.zero_le _) hd (hz0 i (Nat.le_refl i) (by omega)) (fun k h1 h2 => hz0 k (by omega) h2) _ _ h_row hS _ (lv_sub hl [1, 2, 3, 0] rfl)
  exact loop2 _ 0 r0 (Nat.lt_succ_self _) (Nat.zero_le _) (fun k hk => absurd hk (Nat.not_lt_zero k)) (fun k _ hk => hr0 k hk) _ _ h_row hS _ (lv_sub hl [1, 2, 0] rfl)
