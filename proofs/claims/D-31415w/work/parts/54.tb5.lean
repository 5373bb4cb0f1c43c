set_option maxRecDepth 100000
theorem fnd_lt {f : Nat → Bool} {n y : Nat} (h : fndTo f n = some y) : y < n ∧ f y = true ∧ ∀ z, z < y → f z = false := by
  induction n with
  | zero => cases h
  | succ n ih =>
    rw [fndTo] at h
    cases e : fndTo f n with
    | some z =>
      rw [e] at h
      have h : z = y := Option.some.inj h
      subst h
      obtain ⟨a, b⟩ := ih e
      exact ⟨by omega, b⟩
    | none =>
      rw [e] at h
      by_cases q : f n = true
      · simp [q] at h
        subst h
        refine ⟨by omega, q, ?_⟩
        clear ih
        have key : ∀ m, fndTo f m = none → ∀ z, z < m → f z = false := by
          intro m
          induction m with
          | zero => intro _ z hz; omega
          | succ m ihm =>
            intro em z hz
            rw [fndTo] at em
            cases e2 : fndTo f m with
            | some w => rw [e2] at em; cases em
            | none =>
              rw [e2] at em
              rcases Nat.lt_or_ge z m with a | a
              · exact ihm e2 z a
              · have : z = m := by omega
                subst this
                cases hf : f z
                · rfl
                · rw [hf] at em; cases em
        exact key n e
      · simp [q] at h
theorem fr_m1 {g : Nat → Bool} {s : Nat} : frI g s = -1 ↔ frO g s = none := by
  unfold frI
  cases e : frO g s with
  | none => simp
  | some y =>
    have := (fnd_lt e).1
    constructor
    · intro h; exact absurd h (nI_m1 (by omega))
    · intro h; cases h
/-- the first of the smallest size -/
def fwTo (g : Nat → Bool) : Nat → Option Nat
  | 0 => none
  | n + 1 => match fwTo g n with
    | some y => some y
    | none => frO g n
theorem fw_no {g : Nat → Bool} {n : Nat} (h : fwTo g n = none) (h2 : frO g n = none) : fwTo g (n + 1) = none := by rw [fwTo, h]; exact h2
theorem fw_yes {g : Nat → Bool} {k n : Nat} (h : fwTo g k = none) (h2 : ¬ frO g k = none) (hn : k < n) : fwTo g n = frO g k := by
  induction n with
  | zero => omega
  | succ n ih =>
    rcases Nat.lt_or_ge k n with q | q
    · rw [fwTo, ih q]
      cases e : frO g k with
      | none => exact absurd e h2
      | some y => rfl
    · have : k = n := by omega
      subst this
      rw [fwTo, h]
abbrev rm_X14_fewest : Room := { frames := 2, cells := 0, slots := 0, locals := 52 }
set_option maxHeartbeats 4000000 in
theorem cx_X14_fewest (l : Launch) (w : Wd) (tb : Nat) (d : Nat) (rl : Nat) (al : Nat) (oc : Nat) (vs : Nat) (ak : Nat) (dc : Nat) (pt : Nat) (x0 : Nat) (cm : Nat) (pr : Nat → Nat) (PF : Nat → Nat → Nat) (sm : Nat) (ot : Nat) (hsm : sm < 65536) (hot : ot < 65536) (hcm : cm ≤ 8) (hpf : ∀ c v, PF c v < 65536) : Ctr (GX w) l yX14_fewest cX14_fewest 6 (some .int) rm_X14_fewest [.ref tb, .int (nI sm), .int (nI ot)] (fun H => va_at w.D clA (tb, .inr (16, [.ref d, .int (nI rl), .int (nI al), .ref oc, .ref vs, .ref ak, .ref dc, .ref pt, .ref x0])) H ∧ PTP w pt cm pr PF H) (fun _ vR _ => vR = some (.int ((fwTo (gdF PF cm sm ot (cvN PF cm 65535)) (popc sm + 1)).elim (-1) nI))) (fun _ => False) := by
  refine Ctr.mk (by decide +kernel) (Nat.le_of_ble_eq_true rfl) ?_
  intro p e s m a below meth c Q ls S B hin hG hP hl
  have S : CallFix p m c cX14_fewest 6 s a lw_all RX14 := S
  have hl : lv_has ls 6 [(0, .ref tb), (1, .int (nI sm)), (2, .int (nI ot))] := hl
  have hK := hG.kn
  obtain ⟨h_tb, h_pp⟩ := hP
  obtain ⟨A, hAe⟩ : ∃ A : Nat → Prop, A = (fun _ => False) := ⟨_, rfl⟩
  rw [← hAe] at B
  have hS : Sx A s s.heap [] := Sx.rf
  generalize ([] : List Loc) = locs at hS ⊢
  have hAn : ∀ q, ¬ A q := fun q h => by rw [hAe] at h; exact h
  have hA0 : ∀ q, A q → w.b0 ≤ q := fun q h => (hAn q h).elim
  have hSl := hS.le
  have h_pt := h_pp.1
  have hrow := h_pp.2
  refine lv_aload_n S.1 S.2.1 dX14_fewest_0 rfl (lv_at hl 0 rfl) ?_
  refine r_callV S (C := "ConditionWise$Table") (cx_X14_possible l w tb d rl al oc vs ak dc pt x0 cm pr PF hcm hpf) (lw_V q1689 q1620 q1621 q100 q1622) ⟨rfl, by decide +kernel, by decide +kernel, by show _ = some 0; decide +kernel⟩ ⟨Nat.le_of_ble_eq_true rfl, Nat.le_of_ble_eq_true rfl⟩ (r_recv h_tb hK (q := (RX14, TX14, 9)) rfl) (GX.blind w) (hG.at hS hA0) ⟨h_tb, h_pp⟩ hl.1 (rest := []) rfl (Nat.le_of_ble_eq_true rfl) dX14_fewest_1 ⟨(Nat.le_of_ble_eq_true rfl), (Nat.le_of_ble_eq_true rfl)⟩ hS (fun _ h => h.elim) (fun vR H locs hp hz hk hS => ?_)
  subst hp
  have hSl := hS.le
  refine W.eq (g2 := F0 m 4 ls [.int (nI (cvN PF cm 65535))]) rfl ?_
  refine lv_istore_n (lv' := [(3, .int (nI (cvN PF cm 65535))), (0, .ref tb), (1, .int (nI sm)), (2, .int (nI ot))]) S.1 S.2.1 dX14_fewest_4 rfl hl (by decide) rfl (fun ls hl => ?_)
  refine lv_iconst (v := (nI 0)) S.1 S.2.1 dX14_fewest_5 (by decide) ?_
  refine lv_istore (lv' := [(4, .int (nI 0)), (3, .int (nI (cvN PF cm 65535))), (0, .ref tb), (1, .int (nI sm)), (2, .int (nI ot))]) S.1 S.2.1 dX14_fewest_6 hl (by decide) rfl (fun ls hl => ?_)
  have loop8 : ∀ (n_1 : Nat) (i : Nat), popc sm + 1 - i < n_1 → ∀ (hi : i ≤ popc sm + 1) (hno : fwTo (gdF PF cm sm ot (cvN PF cm 65535)) i = none) (H : Heap) (locs : List Loc) (_ : Sx A s H locs) (ls : Array Slot), lv_has ls 6 [(0, .ref tb), (1, .int (nI sm)), (2, .int (nI ot)), (3, .int (nI (cvN PF cm 65535))), (4, .int (nI i))] → W p l e rm_X14_fewest s m a below meth c H locs 0 0 Q (F0 m 8 ls []) := by
    intro n_1
    induction n_1 with
    | zero => intro i hz; exact absurd hz (Nat.not_lt_zero _)
    | succ n_1 ih8 =>
      intro i hm8 hi hno H locs  hS ls hl
      have hSl := hS.le
      refine lv_iload S.1 S.2.1 dX14_fewest_8 (lv_at hl 4 rfl) ?_
      refine lv_iload_n S.1 S.2.1 dX14_fewest_10 rfl (lv_at hl 1 rfl) ?_
      refine r_callS S (cx_J21_bitCount l w sm hsm) (lw_S q1584 q1493 q83 q1494) ⟨by decide +kernel, by decide +kernel, by show _ = some 1; decide +kernel⟩ ⟨Nat.le_of_ble_eq_true rfl, Nat.le_of_ble_eq_true rfl⟩ (GX.blind w) (hG.at hS hA0) trivial hl.1 (rest := [.int (nI i)]) rfl (Nat.le_of_ble_eq_true rfl) dX14_fewest_11 ⟨(Nat.le_of_ble_eq_true rfl), (Nat.le_of_ble_eq_true rfl)⟩ hS (fun _ h => h.elim) (fun vR H locs hp hz hk hS => ?_)
      subst hp
      have hSl := hS.le
      refine W.eq (g2 := F0 m 14 ls [.int (nI (popc sm)), .int (nI i)]) rfl ?_
      refine n_icmp_gt (tgt := 43) S dX14_fewest_14 (by decide) (by have := popc_bd (n := sm) (N := 16) hsm (by decide); omega) (by have := popc_bd (n := sm) (N := 16) hsm (by decide); omega) (fun h_2 => ?_) (fun h_2 => ?_)
      · skip
        refine lv_iconst (v := (-1)) S.1 S.2.1 dX14_fewest_43 (by decide) ?_
        have er : ((-1)) = ((fwTo (gdF PF cm sm ot (cvN PF cm 65535)) (popc sm + 1)).elim (-1) nI) := by 
          have e0 : i = popc sm + 1 := by omega
          rw [← e0, hno]; rfl
        exact r_iret S B hS dX14_fewest_44 rfl (Nat.le_of_ble_eq_true rfl) (Nat.le_of_ble_eq_true rfl) (congrArg (fun z : Int32 => some (Value.int z)) er)
      · skip
        refine lv_aload_n S.1 S.2.1 dX14_fewest_17 rfl (lv_at hl 0 rfl) ?_
        refine lv_iload S.1 S.2.1 dX14_fewest_18 (lv_at hl 4 rfl) ?_
        refine lv_iload_n S.1 S.2.1 dX14_fewest_20 rfl (lv_at hl 1 rfl) ?_
        refine lv_iload_n S.1 S.2.1 dX14_fewest_21 rfl (lv_at hl 2 rfl) ?_
        refine lv_iload_n S.1 S.2.1 dX14_fewest_22 rfl (lv_at hl 3 rfl) ?_
        refine r_callV S (C := "ConditionWise$Table") (cx_X14_first l w tb d rl al oc vs ak dc pt x0 cm pr PF i sm ot (cvN PF cm 65535) (show i ≤ 16 by have := popc_bd (n := sm) (N := 16) hsm (by decide); omega) hsm hot (cvN_lt hcm) hcm hpf) (lw_V q1690 q1692 qs26 q100 q1693) ⟨rfl, by decide +kernel, by decide +kernel, by show _ = some 4; decide +kernel⟩ ⟨Nat.le_of_ble_eq_true rfl, Nat.le_of_ble_eq_true rfl⟩ (r_recv (va_at.old h_tb hS (hAn _)) hK (q := (RX14, TX14, 9)) rfl) (GX.blind w) (hG.at hS hA0) ⟨(va_at.old h_tb hS (hAn _)), (PTP.mono h_pp (fun q hq hz => hS.old hz (hAn _)))⟩ hl.1 (rest := []) rfl (Nat.le_of_ble_eq_true rfl) dX14_fewest_23 ⟨(Nat.le_of_ble_eq_true rfl), (Nat.le_of_ble_eq_true rfl)⟩ hS (fun _ h => h.elim) (fun vR H locs hp hz hk hS => ?_)
        subst hp
        have hSl := hS.le
        refine W.eq (g2 := F0 m 26 ls [.int (frI (gdF PF cm sm ot (cvN PF cm 65535)) i)]) rfl ?_
        refine lv_istore (lv' := [(5, .int (frI (gdF PF cm sm ot (cvN PF cm 65535)) i)), (0, .ref tb), (1, .int (nI sm)), (2, .int (nI ot)), (3, .int (nI (cvN PF cm 65535))), (4, .int (nI i))]) S.1 S.2.1 dX14_fewest_26 hl (by decide) rfl (fun ls hl => ?_)
        refine lv_iload S.1 S.2.1 dX14_fewest_28 (lv_at hl 0 rfl) ?_
        refine lv_iconst (v := (-1)) S.1 S.2.1 dX14_fewest_30 (by decide) ?_
        refine lv_icmp_eq (tgt := 37) S.1 S.2.1 dX14_fewest_31 (by decide) (fun h_3 => ?_) (fun h_3 => ?_)
        · skip
          refine lv_iinc (v := (nI (i + 1))) (lv' := [(4, .int (nI (i + 1))), (5, .int (frI (gdF PF cm sm ot (cvN PF cm 65535)) i)), (0, .ref tb), (1, .int (nI sm)), (2, .int (nI ot)), (3, .int (nI (cvN PF cm 65535)))]) S.1 S.2.1 dX14_fewest_37 hl (k := 5) rfl (nI_add _ _) (by decide) rfl (fun ls hl => ?_)
          refine lv_goto (tgt := 8) S.1 S.2.1 dX14_fewest_40 (by decide) ?_
          exact ih8 (i + 1) (by omega) (by omega) (fw_no hno (fr_m1.mp (by assumption))) _ _  hS _ (lv_sub hl [2, 3, 4, 5, 0] rfl)
        · skip
          refine lv_iload S.1 S.2.1 dX14_fewest_34 (lv_at hl 0 rfl) ?_
          have er : (frI (gdF PF cm sm ot (cvN PF cm 65535)) i) = ((fwTo (gdF PF cm sm ot (cvN PF cm 65535)) (popc sm + 1)).elim (-1) nI) := by rw [fw_yes hno (fun z => absurd (fr_m1.mpr z) (by assumption)) (by omega)]; rfl
          exact r_iret S B hS dX14_fewest_36 rfl (Nat.le_of_ble_eq_true rfl) (Nat.le_of_ble_eq_true rfl) (congrArg (fun z : Int32 => some (Value.int z)) er)
  exact loop8 _ 0 (Nat.lt_succ_self _) (Nat.zero_le _) rfl _ _  hS _ (lv_sub hl [2, 3, 4, 1, 0] rfl)
