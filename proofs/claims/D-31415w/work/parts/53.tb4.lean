set_option maxRecDepth 100000
def fndTo (f : Nat → Bool) : Nat → Option Nat
  | 0 => none
  | n + 1 => match fndTo f n with
    | some y => some y
    | none => if f n = true then some n else none
theorem fnd_no {f : Nat → Bool} {n : Nat} (h : ∀ y, y < n → f y = false) : fndTo f n = none := by
  induction n with
  | zero => rfl
  | succ n ih => rw [fndTo, ih (fun y hy => h y (by omega)), h n (by omega)]; rfl
theorem fnd_yes {f : Nat → Bool} {n y : Nat} (h : f y = true) (hl : ∀ z, z < y → f z = false) (hn : y < n) : fndTo f n = some y := by
  induction n with
  | zero => omega
  | succ n ih =>
    rcases Nat.lt_or_ge y n with q | q
    · rw [fndTo, ih q]
    · have : y = n := by omega
      subst this
      rw [fndTo, fnd_no hl, if_pos h]
def frO (g : Nat → Bool) (s : Nat) : Option Nat := fndTo (fun y => decide (popc y = s) && g y) 65536
def frI (g : Nat → Bool) (s : Nat) : Int32 := (frO g s).elim (-1) nI
theorem fr_yes {g : Nat → Bool} {s y : Nat} (hy : y < 65536) (hp : popc y = s) (hg : g y = true) (hl : ∀ z, z < y → popc z = s → g z = false) : frI g s = nI y := by
  have : frO g s = some y := fnd_yes (by rw [hp, hg]; simp) (fun z hz => by
    by_cases q : popc z = s
    · rw [hl z hz q]; simp
    · rw [decide_eq_false q]; rfl) hy
  unfold frI; rw [this]; rfl
theorem fr_no {g : Nat → Bool} {s : Nat} (hl : ∀ z, z < 65536 → popc z = s → g z = false) : frI g s = -1 := by
  have : frO g s = none := fnd_no (fun z hz => by
    by_cases q : popc z = s
    · rw [hl z hz q]; simp
    · rw [decide_eq_false q]; rfl)
  unfold frI; rw [this]; rfl
def gdF (PF : Nat → Nat → Nat) (cm sm ot wt y : Nat) : Bool := decide (nAnd y sm = 0) && decide (cvN PF cm (y ||| ot) = wt)
theorem gs_step {x s : Nat} {g : Nat → Bool} (hx : 0 < x) (h16 : x < 65536) (hp : popc x = s) (hl : ∀ z, z < x → popc z = s → g z = false) (hg : g x = false) : 0 < gsN x ∧ gsN x < 262144 ∧ x < gsN x ∧ popc (gsN x) = s ∧ ∀ z, z < gsN x → popc z = s → g z = false := by
  obtain ⟨a, b, c, d⟩ := gs_next hx h16
  refine ⟨by omega, c, a, by rw [b, hp], fun z hz q => ?_⟩
  rcases Nat.lt_or_ge z x with h | h
  · exact hl z h q
  · rcases Nat.lt_or_ge x z with h2 | h2
    · exact absurd (by rw [q, hp]) (d z h2 hz)
    · have : z = x := by omega
      subst this; exact hg
theorem lowb_pos {x : Nat} (h : 0 < x) : 0 < lowb x ∧ lowb x ≤ x := by
  refine ⟨?_, nAnd_le _ _⟩
  obtain ⟨t, k, A, hk, ex, -⟩ := gs_dec x h
  obtain ⟨-, el⟩ := gs_eq (t := t) (A := A) hk
  rw [← ex] at el
  rw [el]; exact Nat.two_pow_pos t
theorem popc_0 {z : Nat} (h : z < 65536) (e : popc z = 0) : z = 0 := by
  rcases Nat.eq_zero_or_pos z with q | q
  · exact q
  · have := popc_pos q (Nat.lt_trans h (by decide)); omega
theorem cvN_lt {PF : Nat → Nat → Nat} {cm z : Nat} (h : cm ≤ 8) : cvN PF cm z < 256 := bitsTo_b _ h
theorem fs_0 {s : Nat} (h : ¬ s = 0) : 0 < 1 <<< s - 1 := by
  rw [Nat.one_shiftLeft]
  have := Nat.pow_le_pow_right (n := 2) (by decide) (show 1 ≤ s by omega)
  omega
theorem fs_1 {s : Nat} (h : s ≤ 16) : 1 <<< s - 1 < 262144 := by
  rw [Nat.one_shiftLeft]
  have := Nat.pow_le_pow_right (n := 2) (by decide) h
  have e : (2 : Nat) ^ 16 = 65536 := by decide
  omega
theorem fs_2 {s : Nat} (h : s ≤ 16) : popc (1 <<< s - 1) = s := by rw [Nat.one_shiftLeft]; exact popc_ones (by omega)
theorem fs_3 {s : Nat} {g : Nat → Bool} (h : s ≤ 16) : ∀ z, z < 1 <<< s - 1 → popc z = s → g z = false := by
  intro z hz q
  rw [Nat.one_shiftLeft] at hz
  have := popc_max (n := z) (N := s) (by omega) (by omega) q
  omega
abbrev rm_X14_first : Room := { frames := 1, cells := 0, slots := 0, locals := 25 }
set_option maxHeartbeats 4000000 in
theorem cx_X14_first (l : Launch) (w : Wd) (tb : Nat) (d : Nat) (rl : Nat) (al : Nat) (oc : Nat) (vs : Nat) (ak : Nat) (dc : Nat) (pt : Nat) (x0 : Nat) (cm : Nat) (pr : Nat → Nat) (PF : Nat → Nat → Nat) (sz : Nat) (sm : Nat) (ot : Nat) (wt : Nat) (hsz : sz ≤ 16) (hsm : sm < 65536) (hot : ot < 65536) (hwt : wt < 256) (hcm : cm ≤ 8) (hpf : ∀ c v, PF c v < 65536) : Ctr (GX w) l yX14_first cX14_first 8 (some .int) rm_X14_first [.ref tb, .int (nI sz), .int (nI sm), .int (nI ot), .int (nI wt)] (fun H => va_at w.D clA (tb, .inr (16, [.ref d, .int (nI rl), .int (nI al), .ref oc, .ref vs, .ref ak, .ref dc, .ref pt, .ref x0])) H ∧ PTP w pt cm pr PF H) (fun _ vR _ => vR = some (.int (frI (gdF PF cm sm ot wt) sz))) (fun _ => False) := by
  refine Ctr.mk (by decide +kernel) (Nat.le_of_ble_eq_true rfl) ?_
  intro p e s m a below meth c Q ls S B hin hG hP hl
  have S : CallFix p m c cX14_first 8 s a lw_all RX14 := S
  have hl : lv_has ls 8 [(0, .ref tb), (1, .int (nI sz)), (2, .int (nI sm)), (3, .int (nI ot)), (4, .int (nI wt))] := hl
  have hK := hG.kn
  obtain ⟨h_tb, h_pp⟩ := hP
  obtain ⟨A, hAe⟩ : ∃ A : Nat → Prop, A = (fun _ => False) := ⟨_, rfl⟩
  rw [← hAe] at B
  have hS : Sx A s s.heap [] := Sx.rf
  generalize ([] : List Loc) = locs at hS ⊢
  have hAn : ∀ q, ¬ A q := fun q h => by rw [hAe] at h; exact h
  have hA0 : ∀ q, A q → w.b0 ≤ q := fun q h => (hAn q h).elim
  have hSl := hS.le
  have h_pt := h_pp.1
  have hrow := h_pp.2
  refine lv_iload_n S.1 S.2.1 dX14_first_0 rfl (lv_at hl 1 rfl) ?_
  refine n_if_ne (tgt := 20) S dX14_first_1 (by decide) (by first | omega | exact Nat.lt_trans (cvN_lt hcm) (by decide) | exact Nat.lt_of_le_of_lt (nAnd_le _ _) (by omega)) (fun h_1 => ?_) (fun h_1 => ?_)
  · skip
    refine lv_iconst (v := (nI 1)) S.1 S.2.1 dX14_first_20 (by decide) ?_
    refine lv_iload_n S.1 S.2.1 dX14_first_21 rfl (lv_at hl 1 rfl) ?_
    refine n_ishl S dX14_first_22 (by omega) ?_
    refine lv_iconst (v := (nI 1)) S.1 S.2.1 dX14_first_23 (by decide) ?_
    refine n_isub S dX14_first_24 (by have := Nat.two_pow_pos sz; rw [Nat.one_shiftLeft]; omega) ?_
    refine lv_istore (lv' := [(5, .int (nI ((1 <<< sz) - 1))), (0, .ref tb), (1, .int (nI sz)), (2, .int (nI sm)), (3, .int (nI ot)), (4, .int (nI wt))]) S.1 S.2.1 dX14_first_25 hl (by decide) rfl (fun ls hl => ?_)
    have loop27 : ∀ (n_2 : Nat) (x : Nat), 262144 - x < n_2 → ∀ (hx0 : 0 < x) (hx18 : x < 262144) (hpx : popc x = sz) (hnx : ∀ z, z < x → popc z = sz → (gdF PF cm sm ot wt) z = false) (H : Heap) (locs : List Loc) (_ : Sx A s H locs) (ls : Array Slot), lv_has ls 8 [(0, .ref tb), (1, .int (nI sz)), (2, .int (nI sm)), (3, .int (nI ot)), (4, .int (nI wt)), (5, .int (nI x))] → W p l e rm_X14_first s m a below meth c H locs 0 0 Q (F0 m 27 ls []) := by
      intro n_2
      induction n_2 with
      | zero => intro x hz; exact absurd hz (Nat.not_lt_zero _)
      | succ n_2 ih27 =>
        intro x hm27 hx0 hx18 hpx hnx H locs  hS ls hl
        have hSl := hS.le
        refine lv_iload S.1 S.2.1 dX14_first_27 (lv_at hl 5 rfl) ?_
        refine n_ldc S (n := 65535) q1623 (by decide) dX14_first_29 ?_
        refine n_icmp_gt (tgt := 92) S dX14_first_31 (by decide) (by first | omega | exact Nat.lt_trans (cvN_lt hcm) (by decide) | exact Nat.lt_of_le_of_lt (nAnd_le _ _) (by omega)) (by decide) (fun h_3 => ?_) (fun h_3 => ?_)
        · skip
          refine lv_iconst (v := (-1)) S.1 S.2.1 dX14_first_92 (by decide) ?_
          have er : ((-1)) = (frI (gdF PF cm sm ot wt) sz) := by exact (fr_no fun z hz q => hnx z (by omega) q).symm
          exact r_iret S B hS dX14_first_93 rfl (Nat.le_of_ble_eq_true rfl) (Nat.le_of_ble_eq_true rfl) (congrArg (fun z : Int32 => some (Value.int z)) er)
        · skip
          refine lv_iload S.1 S.2.1 dX14_first_34 (lv_at hl 5 rfl) ?_
          refine lv_iload_n S.1 S.2.1 dX14_first_36 rfl (lv_at hl 2 rfl) ?_
          refine lv_iconst (v := (-1)) S.1 S.2.1 dX14_first_37 (by decide) ?_
          refine lv_ixor S.1 S.2.1 dX14_first_38 ?_
          refine n_iandC S dX14_first_39 ?_
          refine n_if_ne (tgt := 59) S dX14_first_40 (by decide) (by first | omega | exact Nat.lt_trans (cvN_lt hcm) (by decide) | exact Nat.lt_of_le_of_lt (nAnd_le _ _) (by omega)) (fun h_4 => ?_) (fun h_4 => ?_)
          · skip
            refine lv_iload S.1 S.2.1 dX14_first_59 (lv_at hl 5 rfl) ?_
            refine lv_iload S.1 S.2.1 dX14_first_61 (lv_at hl 5 rfl) ?_
            refine lv_ineg S.1 S.2.1 dX14_first_63 ?_
            refine lv_iand S.1 S.2.1 dX14_first_64 ?_
            rw [show ((nI x) &&& (-(nI x))) = (nI (lowb x)) from low_I hx0]
            refine lv_istore (lv' := [(6, .int (nI (lowb x))), (0, .ref tb), (1, .int (nI sz)), (2, .int (nI sm)), (3, .int (nI ot)), (4, .int (nI wt)), (5, .int (nI x))]) S.1 S.2.1 dX14_first_65 hl (by decide) rfl (fun ls hl => ?_)
            refine lv_iload S.1 S.2.1 dX14_first_67 (lv_at hl 6 rfl) ?_
            refine lv_iload S.1 S.2.1 dX14_first_69 (lv_at hl 0 rfl) ?_
            refine n_iadd S dX14_first_71 ?_
            refine lv_istore (lv' := [(7, .int (nI (x + (lowb x)))), (6, .int (nI (lowb x))), (0, .ref tb), (1, .int (nI sz)), (2, .int (nI sm)), (3, .int (nI ot)), (4, .int (nI wt)), (5, .int (nI x))]) S.1 S.2.1 dX14_first_72 hl (by decide) rfl (fun ls hl => ?_)
            refine lv_iload S.1 S.2.1 dX14_first_74 (lv_at hl 7 rfl) ?_
            refine lv_iload S.1 S.2.1 dX14_first_76 (lv_at hl 0 rfl) ?_
            refine n_ixor S dX14_first_78 ?_
            refine lv_iconst (v := (nI 2)) S.1 S.2.1 dX14_first_79 (by decide) ?_
            refine n_iushr S dX14_first_80 (Nat.lt_trans (Nat.xor_lt_two_pow (n := 20) (by show x < 1048576; omega) (by show _ < 1048576; have := (lowb_pos hx0).2; omega)) (by decide)) (by omega) ?_
            refine lv_iload S.1 S.2.1 dX14_first_81 (lv_at hl 1 rfl) ?_
            refine n_idiv S dX14_first_83 (Nat.lt_of_le_of_lt (Nat.shiftRight_le _ 2) (Nat.lt_trans (Nat.xor_lt_two_pow (n := 20) (by show x < 1048576; omega) (by show _ < 1048576; have := (lowb_pos hx0).2; omega)) (by decide))) (lowb_pos hx0).1 (by have := (lowb_pos hx0).2; omega) ?_
            refine lv_iload S.1 S.2.1 dX14_first_84 (lv_at hl 0 rfl) ?_
            refine n_ior S dX14_first_86 ?_
            refine lv_istore (lv' := [(5, .int (nI ((((x ^^^ (x + (lowb x))) >>> 2) / (lowb x)) ||| (x + (lowb x))))), (7, .int (nI (x + (lowb x)))), (6, .int (nI (lowb x))), (0, .ref tb), (1, .int (nI sz)), (2, .int (nI sm)), (3, .int (nI ot)), (4, .int (nI wt))]) S.1 S.2.1 dX14_first_87 hl (by decide) rfl (fun ls hl => ?_)
            refine lv_goto (tgt := 27) S.1 S.2.1 dX14_first_89 (by decide) ?_
            have hgx : (gdF PF cm sm ot wt) x = false := by unfold gdF; first | (rw [decide_eq_false (show ¬ nAnd x sm = 0 from by assumption)]; rfl) | (rw [decide_eq_false (show ¬ cvN PF cm (x ||| ot) = wt from by assumption), Bool.and_false])
            have hst := gs_step hx0 (by omega) hpx hnx hgx
            exact ih27 (gsN x) (by omega) hst.1 hst.2.1 hst.2.2.2.1 hst.2.2.2.2 _ _  hS _ (lv_sub hl [3, 4, 5, 6, 7, 0] rfl)
          · skip
            refine lv_aload_n S.1 S.2.1 dX14_first_43 rfl (lv_at hl 0 rfl) ?_
            refine lv_iload S.1 S.2.1 dX14_first_44 (lv_at hl 5 rfl) ?_
            refine lv_iload_n S.1 S.2.1 dX14_first_46 rfl (lv_at hl 3 rfl) ?_
            refine n_ior S dX14_first_47 ?_
            refine r_callV S (C := "ConditionWise$Table") (cx_X14_covered l w tb d rl al oc vs ak dc pt x0 cm pr PF (x ||| ot) (Nat.or_lt_two_pow (n := 16) (by show x < 65536; omega) hot) hcm hpf) (lw_V q1624 q1625 q1626 q100 q1627) ⟨rfl, by decide +kernel, by decide +kernel, by show _ = some 1; decide +kernel⟩ ⟨Nat.le_of_ble_eq_true rfl, Nat.le_of_ble_eq_true rfl⟩ (r_recv (va_at.old h_tb hS (hAn _)) hK (q := (RX14, TX14, 9)) rfl) (GX.blind w) (hG.at hS hA0) ⟨(va_at.old h_tb hS (hAn _)), (PTP.mono h_pp (fun q hq hz => hS.old hz (hAn _)))⟩ hl.1 (rest := []) rfl (Nat.le_of_ble_eq_true rfl) dX14_first_48 ⟨(Nat.le_of_ble_eq_true rfl), (Nat.le_of_ble_eq_true rfl)⟩ hS (fun _ h => h.elim) (fun vR H locs hp hz hk hS => ?_)
            subst hp
            have hSl := hS.le
            refine W.eq (g2 := F0 m 51 ls [.int (nI (cvN PF cm (x ||| ot)))]) rfl ?_
            refine lv_iload S.1 S.2.1 dX14_first_51 (lv_at hl 4 rfl) ?_
            refine n_icmp_ne (tgt := 59) S dX14_first_53 (by decide) (by first | omega | exact Nat.lt_trans (cvN_lt hcm) (by decide) | exact Nat.lt_of_le_of_lt (nAnd_le _ _) (by omega)) (by first | omega | exact Nat.lt_trans (cvN_lt hcm) (by decide) | exact Nat.lt_of_le_of_lt (nAnd_le _ _) (by omega)) (fun h_5 => ?_) (fun h_5 => ?_)
            · skip
              refine lv_iload S.1 S.2.1 dX14_first_59 (lv_at hl 5 rfl) ?_
              refine lv_iload S.1 S.2.1 dX14_first_61 (lv_at hl 5 rfl) ?_
              refine lv_ineg S.1 S.2.1 dX14_first_63 ?_
              refine lv_iand S.1 S.2.1 dX14_first_64 ?_
              rw [show ((nI x) &&& (-(nI x))) = (nI (lowb x)) from low_I hx0]
              refine lv_istore (lv' := [(6, .int (nI (lowb x))), (0, .ref tb), (1, .int (nI sz)), (2, .int (nI sm)), (3, .int (nI ot)), (4, .int (nI wt)), (5, .int (nI x))]) S.1 S.2.1 dX14_first_65 hl (by decide) rfl (fun ls hl => ?_)
              refine lv_iload S.1 S.2.1 dX14_first_67 (lv_at hl 6 rfl) ?_
              refine lv_iload S.1 S.2.1 dX14_first_69 (lv_at hl 0 rfl) ?_
              refine n_iadd S dX14_first_71 ?_
              refine lv_istore (lv' := [(7, .int (nI (x + (lowb x)))), (6, .int (nI (lowb x))), (0, .ref tb), (1, .int (nI sz)), (2, .int (nI sm)), (3, .int (nI ot)), (4, .int (nI wt)), (5, .int (nI x))]) S.1 S.2.1 dX14_first_72 hl (by decide) rfl (fun ls hl => ?_)
              refine lv_iload S.1 S.2.1 dX14_first_74 (lv_at hl 7 rfl) ?_
              refine lv_iload S.1 S.2.1 dX14_first_76 (lv_at hl 0 rfl) ?_
              refine n_ixor S dX14_first_78 ?_
              refine lv_iconst (v := (nI 2)) S.1 S.2.1 dX14_first_79 (by decide) ?_
              refine n_iushr S dX14_first_80 (Nat.lt_trans (Nat.xor_lt_two_pow (n := 20) (by show x < 1048576; omega) (by show _ < 1048576; have := (lowb_pos hx0).2; omega)) (by decide)) (by omega) ?_
              refine lv_iload S.1 S.2.1 dX14_first_81 (lv_at hl 1 rfl) ?_
              refine n_idiv S dX14_first_83 (Nat.lt_of_le_of_lt (Nat.shiftRight_le _ 2) (Nat.lt_trans (Nat.xor_lt_two_pow (n := 20) (by show x < 1048576; omega) (by show _ < 1048576; have := (lowb_pos hx0).2; omega)) (by decide))) (lowb_pos hx0).1 (by have := (lowb_pos hx0).2; omega) ?_
              refine lv_iload S.1 S.2.1 dX14_first_84 (lv_at hl 0 rfl) ?_
              refine n_ior S dX14_first_86 ?_
              refine lv_istore (lv' := [(5, .int (nI ((((x ^^^ (x + (lowb x))) >>> 2) / (lowb x)) ||| (x + (lowb x))))), (7, .int (nI (x + (lowb x)))), (6, .int (nI (lowb x))), (0, .ref tb), (1, .int (nI sz)), (2, .int (nI sm)), (3, .int (nI ot)), (4, .int (nI wt))]) S.1 S.2.1 dX14_first_87 hl (by decide) rfl (fun ls hl => ?_)
              refine lv_goto (tgt := 27) S.1 S.2.1 dX14_first_89 (by decide) ?_
              have hgx : (gdF PF cm sm ot wt) x = false := by unfold gdF; first | (rw [decide_eq_false (show ¬ nAnd x sm = 0 from by assumption)]; rfl) | (rw [decide_eq_false (show ¬ cvN PF cm (x ||| ot) = wt from by assumption), Bool.and_false])
              have hst := gs_step hx0 (by omega) hpx hnx hgx
              exact ih27 (gsN x) (by omega) hst.1 hst.2.1 hst.2.2.2.1 hst.2.2.2.2 _ _  hS _ (lv_sub hl [3, 4, 5, 6, 7, 0] rfl)
            · skip
              refine lv_iload S.1 S.2.1 dX14_first_56 (lv_at hl 5 rfl) ?_
              have er : ((nI x)) = (frI (gdF PF cm sm ot wt) sz) := by exact (fr_yes (by omega) hpx (by unfold gdF; rw [decide_eq_true (show nAnd x sm = 0 from by assumption), decide_eq_true (show cvN PF cm (x ||| ot) = wt from by assumption)]; rfl) hnx).symm
              exact r_iret S B hS dX14_first_58 rfl (Nat.le_of_ble_eq_true rfl) (Nat.le_of_ble_eq_true rfl) (congrArg (fun z : Int32 => some (Value.int z)) er)
    exact loop27 _ (1 <<< sz - 1) (Nat.lt_succ_self _) (fs_0 (by assumption)) (fs_1 hsz) (fs_2 hsz) (fs_3 hsz) _ _  hS _ (lv_sub hl [1, 2, 3, 4, 5, 0] rfl)
  · skip
    refine lv_aload_n S.1 S.2.1 dX14_first_4 rfl (lv_at hl 0 rfl) ?_
    refine lv_iload_n S.1 S.2.1 dX14_first_5 rfl (lv_at hl 3 rfl) ?_
    refine r_callV S (C := "ConditionWise$Table") (cx_X14_covered l w tb d rl al oc vs ak dc pt x0 cm pr PF ot hot hcm hpf) (lw_V q1624 q1625 q1626 q100 q1627) ⟨rfl, by decide +kernel, by decide +kernel, by show _ = some 1; decide +kernel⟩ ⟨Nat.le_of_ble_eq_true rfl, Nat.le_of_ble_eq_true rfl⟩ (r_recv h_tb hK (q := (RX14, TX14, 9)) rfl) (GX.blind w) (hG.at hS hA0) ⟨h_tb, h_pp⟩ hl.1 (rest := []) rfl (Nat.le_of_ble_eq_true rfl) dX14_first_6 ⟨(Nat.le_of_ble_eq_true rfl), (Nat.le_of_ble_eq_true rfl)⟩ hS (fun _ h => h.elim) (fun vR H locs hp hz hk hS => ?_)
    subst hp
    have hSl := hS.le
    refine W.eq (g2 := F0 m 9 ls [.int (nI (cvN PF cm ot))]) rfl ?_
    refine lv_iload S.1 S.2.1 dX14_first_9 (lv_at hl 4 rfl) ?_
    refine n_icmp_ne (tgt := 18) S dX14_first_11 (by decide) (by first | omega | exact Nat.lt_trans (cvN_lt hcm) (by decide) | exact Nat.lt_of_le_of_lt (nAnd_le _ _) (by omega)) (by first | omega | exact Nat.lt_trans (cvN_lt hcm) (by decide) | exact Nat.lt_of_le_of_lt (nAnd_le _ _) (by omega)) (fun h_6 => ?_) (fun h_6 => ?_)
    · skip
      refine lv_iconst (v := (-1)) S.1 S.2.1 dX14_first_18 (by decide) ?_
      have er : ((-1)) = (frI (gdF PF cm sm ot wt) sz) := by 
        have hz : sz = 0 := by assumption
        subst hz
        first
        | (have hw : cvN PF cm ot = wt := by assumption
           exact (fr_yes (y := 0) (by decide) (by decide) (by unfold gdF; rw [Nat.zero_or, decide_eq_true hw, show nAnd 0 sm = 0 from Nat.le_zero.mp (nAnd_le _ _)]; rfl) (fun z hz => absurd hz (Nat.not_lt_zero z))).symm)
        | (have hw : ¬ cvN PF cm ot = wt := by assumption
           exact (fr_no fun z hz q => by have := popc_0 hz q; subst this; unfold gdF; rw [Nat.zero_or, decide_eq_false hw, Bool.and_false]).symm)
      exact r_iret S B hS dX14_first_19 rfl (Nat.le_of_ble_eq_true rfl) (Nat.le_of_ble_eq_true rfl) (congrArg (fun z : Int32 => some (Value.int z)) er)
    · skip
      refine lv_iconst (v := (nI 0)) S.1 S.2.1 dX14_first_14 (by decide) ?_
      refine lv_goto (tgt := 19) S.1 S.2.1 dX14_first_15 (by decide) ?_
      have er : ((nI 0)) = (frI (gdF PF cm sm ot wt) sz) := by 
        have hz : sz = 0 := by assumption
        subst hz
        first
        | (have hw : cvN PF cm ot = wt := by assumption
           exact (fr_yes (y := 0) (by decide) (by decide) (by unfold gdF; rw [Nat.zero_or, decide_eq_true hw, show nAnd 0 sm = 0 from Nat.le_zero.mp (nAnd_le _ _)]; rfl) (fun z hz => absurd hz (Nat.not_lt_zero z))).symm)
        | (have hw : ¬ cvN PF cm ot = wt := by assumption
           exact (fr_no fun z hz q => by have := popc_0 hz q; subst this; unfold gdF; rw [Nat.zero_or, decide_eq_false hw, Bool.and_false]).symm)
      exact r_iret S B hS dX14_first_19 rfl (Nat.le_of_ble_eq_true rfl) (Nat.le_of_ble_eq_true rfl) (congrArg (fun z : Int32 => some (Value.int z)) er)
