set_option maxRecDepth 100000
/-- the rows of a table's partners -/
def PTP (w : Wd) (pt cm : Nat) (pr : Nat → Nat) (PF : Nat → Nat → Nat) (H : Heap) : Prop := va_at w.D clA (pt, .inl (w.dA 6, cm, .inr (.inr (.inr (.inr (fun j => some (pr j))))))) H ∧ ∀ j, j < cm → va_at w.D clA (pr j, .inl (w.dA 0, 16, .inl (fun v => nI (PF j v)))) H
theorem PTP.mono {w : Wd} {pt cm : Nat} {pr : Nat → Nat} {PF : Nat → Nat → Nat} {H H1 : Heap} (h : PTP w pt cm pr PF H) (hq : ∀ q, True → q < H.size → H1[q]? = H[q]?) : PTP w pt cm pr PF H1 := ⟨h.1.kept (hq _ trivial h.1.lt), fun j hj => (h.2 j hj).kept (hq _ trivial (h.2 j hj).lt)⟩
def orTo (x m : Nat) (f : Nat → Bool) : Nat → Nat
  | 0 => x
  | j + 1 => orTo x m f j ||| (if f j = true then m else 0)
theorem orTo_any (x m : Nat) (f : Nat → Bool) (n : Nat) : orTo x m f n = x ||| (if anyTo f n = true then m else 0) := by
  induction n with
  | zero => simp [orTo, anyTo]
  | succ n ih =>
    rw [orTo, ih, anyTo, Nat.or_assoc]
    cases anyTo f n <;> cases f n <;> simp
def cvf (PF : Nat → Nat → Nat) (set c j : Nat) : Bool := decide ((set >>> j) &&& 1 = 1) && !decide (PF c j &&& set = 0)
def cvN (PF : Nat → Nat → Nat) (cm set : Nat) : Nat := bitsTo (fun c => anyTo (cvf PF set c) 16) cm
theorem bitsTo_b (f : Nat → Bool) {n N : Nat} (h : n ≤ N) : bitsTo f n < 2 ^ N := Nat.lt_of_lt_of_le (bitsTo_lt f n) (Nat.pow_le_pow_right (by decide) h)
theorem orTo_b {x m N : Nat} (f : Nat → Bool) (n : Nat) (hx : x < 2 ^ N) (hm : m < 2 ^ N) : orTo x m f n < 2 ^ N := by
  rw [orTo_any]
  apply Nat.or_lt_two_pow hx
  split
  · exact hm
  · exact Nat.two_pow_pos N
def smF (f : Nat → Nat) : Nat → Nat
  | 0 => 0
  | n + 1 => smF f n + popc (f n)
theorem smF_le (f : Nat → Nat) (n : Nat) : smF f n ≤ 32 * n := by
  induction n with
  | zero => exact Nat.le_refl 0
  | succ n ih => rw [smF]; have := popc_le (f n); omega
abbrev rm_X14_covered : Room := { frames := 0, cells := 0, slots := 0, locals := 0 }
set_option maxHeartbeats 4000000 in
theorem cx_X14_covered (l : Launch) (w : Wd) (tb : Nat) (d : Nat) (rl : Nat) (al : Nat) (oc : Nat) (vs : Nat) (ak : Nat) (dc : Nat) (pt : Nat) (x0 : Nat) (cm : Nat) (pr : Nat → Nat) (PF : Nat → Nat → Nat) (z : Nat) (hz6 : z < 65536) (hcm : cm ≤ 8) (hpf : ∀ c v, PF c v < 65536) : Ctr (GX w) l yX14_covered cX14_covered 6 (some .int) rm_X14_covered [.ref tb, .int (nI z)] (fun H => va_at w.D clA (tb, .inr (16, [.ref d, .int (nI rl), .int (nI al), .ref oc, .ref vs, .ref ak, .ref dc, .ref pt, .ref x0])) H ∧ PTP w pt cm pr PF H) (fun _ vR _ => vR = some (.int (nI (cvN PF cm z)))) (fun _ => False) := by
  refine Ctr.mk (by decide +kernel) (Nat.le_of_ble_eq_true rfl) ?_
  intro p e s m a below meth c Q ls S B hin hG hP hl
  have S : CallFix p m c cX14_covered 6 s a lw_all RX14 := S
  have hl : lv_has ls 6 [(0, .ref tb), (1, .int (nI z))] := hl
  have hK := hG.kn
  obtain ⟨h_tb, h_pp⟩ := hP
  obtain ⟨A, hAe⟩ : ∃ A : Nat → Prop, A = (fun _ => False) := ⟨_, rfl⟩
  rw [← hAe] at B
  have hS : Sx A s s.heap [] := Sx.rf
  generalize ([] : List Loc) = locs at hS ⊢
  have hAn : ∀ q, ¬ A q := fun q h => by rw [hAe] at h; exact h
  have hA0 : ∀ q, A q → w.b0 ≤ q := fun q h => (hAn q h).elim
  have hSl := hS.le
  have h_pt := h_pp.1
  have hrow := h_pp.2
  refine lv_iconst (v := (nI 0)) S.1 S.2.1 dX14_covered_0 (by decide) ?_
  refine lv_istore_n (lv' := [(2, .int (nI 0)), (0, .ref tb), (1, .int (nI z))]) S.1 S.2.1 dX14_covered_1 rfl hl (by decide) rfl (fun ls hl => ?_)
  refine lv_iconst (v := (nI 0)) S.1 S.2.1 dX14_covered_2 (by decide) ?_
  refine lv_istore_n (lv' := [(3, .int (nI 0)), (2, .int (nI 0)), (0, .ref tb), (1, .int (nI z))]) S.1 S.2.1 dX14_covered_3 rfl hl (by decide) rfl (fun ls hl => ?_)
  have loop4 : ∀ (n_1 : Nat) (i : Nat), cm - i < n_1 → ∀ (hi : i ≤ cm) (H : Heap) (locs : List Loc) (_ : Sx A s H locs) (ls : Array Slot), lv_has ls 6 [(0, .ref tb), (1, .int (nI z)), (2, .int (nI (bitsTo (fun c => anyTo (cvf PF z c) 16) i))), (3, .int (nI i))] → W p l e rm_X14_covered s m a below meth c H locs 0 0 Q (F0 m 4 ls []) := by
    intro n_1
    induction n_1 with
    | zero => intro i hz; exact absurd hz (Nat.not_lt_zero _)
    | succ n_1 ih4 =>
      intro i hm4 hi H locs  hS ls hl
      have hSl := hS.le
      refine lv_iload_n S.1 S.2.1 dX14_covered_4 rfl (lv_at hl 3 rfl) ?_
      refine lv_aload_n S.1 S.2.1 dX14_covered_5 rfl (lv_at hl 0 rfl) ?_
      refine x_get S cc_X14 (va_at.old h_tb hS (hAn _)) hK (v := .ref pt) 7 (by decide) q1550 (fun _ hx => hx) rfl dX14_covered_6 ?_
      refine x_alen S 6 (ty := .array .int) (va_at.old h_pt hS (hAn _)) hK rfl dX14_covered_9 ?_
      refine W.eq (g2 := F0 m 10 ls [.int (nI cm), .int (nI i)]) rfl ?_
      refine n_icmp_ge (tgt := 81) S dX14_covered_10 (by decide) (by first | omega | exact Nat.lt_trans (hpf _ _) (by decide) | exact Nat.lt_of_le_of_lt Nat.and_le_right (by omega) | exact Nat.lt_of_le_of_lt Nat.and_le_left (by omega)) (by first | omega | exact Nat.lt_trans (hpf _ _) (by decide) | exact Nat.lt_of_le_of_lt Nat.and_le_right (by omega) | exact Nat.lt_of_le_of_lt Nat.and_le_left (by omega)) (fun h_2 => ?_) (fun h_2 => ?_)
      · skip
        refine lv_iload_n S.1 S.2.1 dX14_covered_81 rfl (lv_at hl 2 rfl) ?_
        have er : (bitsTo (fun c => anyTo (cvf PF z c) 16) i) = (cvN PF cm z) := by 
          have e0 : i = cm := by omega
          rw [e0]; rfl
        exact r_iret S B hS dX14_covered_82 rfl (Nat.le_of_ble_eq_true rfl) (Nat.le_of_ble_eq_true rfl) (congrArg (fun z : Nat => some (Value.int (nI z))) er)
      · skip
        refine lv_iconst (v := (nI 0)) S.1 S.2.1 dX14_covered_13 (by decide) ?_
        refine lv_istore (lv' := [(4, .int (nI 0)), (0, .ref tb), (1, .int (nI z)), (2, .int (nI (bitsTo (fun c => anyTo (cvf PF z c) 16) i))), (3, .int (nI i))]) S.1 S.2.1 dX14_covered_14 hl (by decide) rfl (fun ls hl => ?_)
        have loop16 : ∀ (n_3 : Nat) (j : Nat), 16 - j < n_3 → ∀ (hj : j ≤ 16) (H : Heap) (locs : List Loc) (_ : Sx A s H locs) (ls : Array Slot), lv_has ls 6 [(0, .ref tb), (1, .int (nI z)), (2, .int (nI (orTo (bitsTo (fun c => anyTo (cvf PF z c) 16) i) (1 <<< i) (cvf PF z i) j))), (3, .int (nI i)), (4, .int (nI j))] → W p l e rm_X14_covered s m a below meth c H locs 0 0 Q (F0 m 16 ls []) := by
          intro n_3
          induction n_3 with
          | zero => intro j hz; exact absurd hz (Nat.not_lt_zero _)
          | succ n_3 ih16 =>
            intro j hm16 hj H locs  hS ls hl
            have hSl := hS.le
            refine lv_iload S.1 S.2.1 dX14_covered_16 (lv_at hl 4 rfl) ?_
            refine lv_bipush (v := (nI 16)) S.1 S.2.1 dX14_covered_18 (by decide) ?_
            refine n_icmp_ge (tgt := 75) S dX14_covered_20 (by decide) (by first | omega | exact Nat.lt_trans (hpf _ _) (by decide) | exact Nat.lt_of_le_of_lt Nat.and_le_right (by omega) | exact Nat.lt_of_le_of_lt Nat.and_le_left (by omega)) (by decide) (fun h_4 => ?_) (fun h_4 => ?_)
            · skip
              refine lv_iinc (v := (nI (i + 1))) (lv' := [(3, .int (nI (i + 1))), (0, .ref tb), (1, .int (nI z)), (2, .int (nI (orTo (bitsTo (fun c => anyTo (cvf PF z c) 16) i) (1 <<< i) (cvf PF z i) j))), (4, .int (nI j))]) S.1 S.2.1 dX14_covered_75 hl (k := 3) rfl (nI_add _ _) (by decide) rfl (fun ls hl => ?_)
              refine lv_goto (tgt := 4) S.1 S.2.1 dX14_covered_78 (by decide) ?_
              have e16 : j = 16 := by omega
              rw [e16, orTo_any] at hl
              exact ih4 (i + 1) (by omega) (by first | rfl | omega | assumption) _ _  hS _ (lv_sub hl [1, 2, 3, 0] rfl)
            · skip
              refine lv_iload_n S.1 S.2.1 dX14_covered_23 rfl (lv_at hl 1 rfl) ?_
              refine lv_iload S.1 S.2.1 dX14_covered_24 (lv_at hl 4 rfl) ?_
              refine n_ishr S dX14_covered_26 (by first | omega | exact Nat.lt_trans (hpf _ _) (by decide) | exact Nat.lt_of_le_of_lt Nat.and_le_right (by omega) | exact Nat.lt_of_le_of_lt Nat.and_le_left (by omega)) (by omega) ?_
              refine lv_iconst (v := (nI 1)) S.1 S.2.1 dX14_covered_27 (by decide) ?_
              refine n_iand S dX14_covered_28 ?_
              refine lv_iconst (v := (nI 1)) S.1 S.2.1 dX14_covered_29 (by decide) ?_
              refine n_icmp_ne (tgt := 51) S dX14_covered_30 (by decide) (by first | omega | exact Nat.lt_trans (hpf _ _) (by decide) | exact Nat.lt_of_le_of_lt Nat.and_le_right (by omega) | exact Nat.lt_of_le_of_lt Nat.and_le_left (by omega)) (by decide) (fun h_5 => ?_) (fun h_5 => ?_)
              · skip
                refine lv_iconst (v := (nI 0)) S.1 S.2.1 dX14_covered_51 (by decide) ?_
                refine lv_istore (lv' := [(5, .int (nI 0)), (0, .ref tb), (1, .int (nI z)), (2, .int (nI (orTo (bitsTo (fun c => anyTo (cvf PF z c) 16) i) (1 <<< i) (cvf PF z i) j))), (3, .int (nI i)), (4, .int (nI j))]) S.1 S.2.1 dX14_covered_52 hl (by decide) rfl (fun ls hl => ?_)
                refine lv_iload_n S.1 S.2.1 dX14_covered_54 rfl (lv_at hl 3 rfl) ?_
                refine lv_iload S.1 S.2.1 dX14_covered_55 (lv_at hl 0 rfl) ?_
                refine n_if_eq (tgt := 66) S dX14_covered_57 (by decide) (by decide) (fun h_6 => ?_) (fun h_6 => ?_)
                · skip
                  refine lv_iconst (v := (nI 0)) S.1 S.2.1 dX14_covered_66 (by decide) ?_
                  refine n_ior S dX14_covered_67 ?_
                  refine lv_istore_n (lv' := [(2, .int (nI ((orTo (bitsTo (fun c => anyTo (cvf PF z c) 16) i) (1 <<< i) (cvf PF z i) j) ||| 0))), (5, .int (nI 0)), (0, .ref tb), (1, .int (nI z)), (3, .int (nI i)), (4, .int (nI j))]) S.1 S.2.1 dX14_covered_68 rfl hl (by decide) rfl (fun ls hl => ?_)
                  refine lv_iinc (v := (nI (j + 1))) (lv' := [(4, .int (nI (j + 1))), (2, .int (nI ((orTo (bitsTo (fun c => anyTo (cvf PF z c) 16) i) (1 <<< i) (cvf PF z i) j) ||| 0))), (5, .int (nI 0)), (0, .ref tb), (1, .int (nI z)), (3, .int (nI i))]) S.1 S.2.1 dX14_covered_69 hl (k := 5) rfl (nI_add _ _) (by decide) rfl (fun ls hl => ?_)
                  refine lv_goto (tgt := 16) S.1 S.2.1 dX14_covered_72 (by decide) ?_
                  rw [show ((orTo (bitsTo (fun c => anyTo (cvf PF z c) 16) i) (1 <<< i) (cvf PF z i) j) ||| 0) = (orTo (bitsTo (fun c => anyTo (cvf PF z c) 16) i) (1 <<< i) (cvf PF z i) (j + 1)) from (by rw [orTo]; show _ = _ ||| (if (decide ((z >>> j) &&& 1 = 1) && !decide (PF i j &&& z = 0)) = true then 1 <<< i else 0); first | rw [decide_eq_true (show (z >>> j) &&& 1 = 1 from by assumption), Bool.true_and] | (rw [decide_eq_false (show ¬ (z >>> j) &&& 1 = 1 from by assumption), Bool.false_and]; rfl))] at hl
                  exact ih16 (j + 1) (by omega) (by first | rfl | omega | assumption) _ _  hS _ (lv_sub hl [3, 4, 1, 5, 0] rfl)
                · skip
                  exact absurd h_6 (by decide)
              · skip
                refine lv_aload_n S.1 S.2.1 dX14_covered_33 rfl (lv_at hl 0 rfl) ?_
                refine x_get S cc_X14 (va_at.old h_tb hS (hAn _)) hK (v := .ref pt) 7 (by decide) q1550 (fun _ hx => hx) rfl dX14_covered_34 ?_
                refine lv_iload_n S.1 S.2.1 dX14_covered_37 rfl (lv_at hl 3 rfl) ?_
                have h_row : va_at w.D clA (pr i, .inl (w.dA 0, 16, .inl (fun v => nI (PF i v)))) s.heap := hrow i (by omega)
                refine x_aald S 6 (ty := .array .int) (va_at.old h_pt hS (hAn _)) hK rfl rfl (i := i) (by show _ < (_ : Nat); first | assumption | omega) (by first | decide | omega) (v := .ref (pr i)) rfl dX14_covered_38 ?_
                refine lv_iload S.1 S.2.1 dX14_covered_39 (lv_at hl 4 rfl) ?_
                refine x_iald S (i := j) (f := PF i) (va_at.old h_row hS (hAn _)) hK (by show _ < (_ : Nat); first | assumption | omega) (by first | decide | omega) dX14_covered_41 ?_
                refine lv_iload_n S.1 S.2.1 dX14_covered_42 rfl (lv_at hl 1 rfl) ?_
                refine n_iand S dX14_covered_43 ?_
                suffices j_8 : W p l e rm_X14_covered s m a below meth c H locs 0 0 Q (F0 m 52 ls [.int (nI (Bool.toNat (!(decide ((((PF i) j) &&& z) = 0)))))]) by
                  refine n_if_eq (tgt := 51) S dX14_covered_44 (by decide) (by first | omega | exact Nat.lt_trans (hpf _ _) (by decide) | exact Nat.lt_of_le_of_lt Nat.and_le_right (by omega) | exact Nat.lt_of_le_of_lt Nat.and_le_left (by omega)) (fun h_7 => ?_) (fun h_7 => ?_)
                  · skip
                    refine lv_iconst (v := (nI 0)) S.1 S.2.1 dX14_covered_51 (by decide) ?_
                    refine W.eq ?_ j_8
                    first | (simp only [h_7, eq_self, decide_true, decide_false, if_true, if_false, reduceIte, Bool.not_true, Bool.not_false, Bool.true_and, Bool.false_and, Bool.and_true, Bool.and_false, Bool.true_or, Bool.false_or, Bool.or_true, Bool.or_false, Bool.toNat_true, Bool.toNat_false, Bool.false_eq_true, Bool.true_eq_false, not_true_eq_false, not_false_eq_true]; done) | (simp [h_7]; done)
                  · skip
                    refine lv_iconst (v := (nI 1)) S.1 S.2.1 dX14_covered_47 (by decide) ?_
                    refine lv_goto (tgt := 52) S.1 S.2.1 dX14_covered_48 (by decide) ?_
                    refine W.eq ?_ j_8
                    first | (simp only [h_7, eq_self, decide_true, decide_false, if_true, if_false, reduceIte, Bool.not_true, Bool.not_false, Bool.true_and, Bool.false_and, Bool.and_true, Bool.and_false, Bool.true_or, Bool.false_or, Bool.or_true, Bool.or_false, Bool.toNat_true, Bool.toNat_false, Bool.false_eq_true, Bool.true_eq_false, not_true_eq_false, not_false_eq_true]; done) | (simp [h_7]; done)
                refine lv_istore (lv' := [(5, .int (nI (Bool.toNat (!(decide ((((PF i) j) &&& z) = 0)))))), (0, .ref tb), (1, .int (nI z)), (2, .int (nI (orTo (bitsTo (fun c => anyTo (cvf PF z c) 16) i) (1 <<< i) (cvf PF z i) j))), (3, .int (nI i)), (4, .int (nI j))]) S.1 S.2.1 dX14_covered_52 hl (by decide) rfl (fun ls hl => ?_)
                refine lv_iload_n S.1 S.2.1 dX14_covered_54 rfl (lv_at hl 3 rfl) ?_
                refine lv_iload S.1 S.2.1 dX14_covered_55 (lv_at hl 0 rfl) ?_
                suffices j_10 : W p l e rm_X14_covered s m a below meth c H locs 0 0 Q (F0 m 67 ls [.int (nI (if (!(decide ((((PF i) j) &&& z) = 0))) = true then 1 <<< i else 0)), .int (nI (orTo (bitsTo (fun c => anyTo (cvf PF z c) 16) i) (1 <<< i) (cvf PF z i) j))]) by
                  refine b_if_eq (tgt := 66) S dX14_covered_57 (by decide) (fun h_9 => ?_) (fun h_9 => ?_)
                  · skip
                    rw [Bool.not_eq_false'] at h_9
                    refine lv_iconst (v := (nI 0)) S.1 S.2.1 dX14_covered_66 (by decide) ?_
                    refine W.eq ?_ j_10
                    first | (simp only [h_9, eq_self, decide_true, decide_false, if_true, if_false, reduceIte, Bool.not_true, Bool.not_false, Bool.true_and, Bool.false_and, Bool.and_true, Bool.and_false, Bool.true_or, Bool.false_or, Bool.or_true, Bool.or_false, Bool.toNat_true, Bool.toNat_false, Bool.false_eq_true, Bool.true_eq_false, not_true_eq_false, not_false_eq_true]; done) | (simp [h_9]; done)
                  · skip
                    rw [Bool.not_eq_true'] at h_9
                    refine lv_iconst (v := (nI 1)) S.1 S.2.1 dX14_covered_60 (by decide) ?_
                    refine lv_iload_n S.1 S.2.1 dX14_covered_61 rfl (lv_at hl 4 rfl) ?_
                    refine n_ishl S dX14_covered_62 (by omega) ?_
                    refine lv_goto (tgt := 67) S.1 S.2.1 dX14_covered_63 (by decide) ?_
                    refine W.eq ?_ j_10
                    first | (simp only [h_9, eq_self, decide_true, decide_false, if_true, if_false, reduceIte, Bool.not_true, Bool.not_false, Bool.true_and, Bool.false_and, Bool.and_true, Bool.and_false, Bool.true_or, Bool.false_or, Bool.or_true, Bool.or_false, Bool.toNat_true, Bool.toNat_false, Bool.false_eq_true, Bool.true_eq_false, not_true_eq_false, not_false_eq_true]; done) | (simp [h_9]; done)
                refine n_ior S dX14_covered_67 ?_
                refine lv_istore_n (lv' := [(2, .int (nI ((orTo (bitsTo (fun c => anyTo (cvf PF z c) 16) i) (1 <<< i) (cvf PF z i) j) ||| (if (!(decide ((((PF i) j) &&& z) = 0))) = true then 1 <<< i else 0)))), (5, .int (nI (Bool.toNat (!(decide ((((PF i) j) &&& z) = 0)))))), (0, .ref tb), (1, .int (nI z)), (3, .int (nI i)), (4, .int (nI j))]) S.1 S.2.1 dX14_covered_68 rfl hl (by decide) rfl (fun ls hl => ?_)
                refine lv_iinc (v := (nI (j + 1))) (lv' := [(4, .int (nI (j + 1))), (2, .int (nI ((orTo (bitsTo (fun c => anyTo (cvf PF z c) 16) i) (1 <<< i) (cvf PF z i) j) ||| (if (!(decide ((((PF i) j) &&& z) = 0))) = true then 1 <<< i else 0)))), (5, .int (nI (Bool.toNat (!(decide ((((PF i) j) &&& z) = 0)))))), (0, .ref tb), (1, .int (nI z)), (3, .int (nI i))]) S.1 S.2.1 dX14_covered_69 hl (k := 5) rfl (nI_add _ _) (by decide) rfl (fun ls hl => ?_)
                refine lv_goto (tgt := 16) S.1 S.2.1 dX14_covered_72 (by decide) ?_
                rw [show ((orTo (bitsTo (fun c => anyTo (cvf PF z c) 16) i) (1 <<< i) (cvf PF z i) j) ||| (if (!(decide ((((PF i) j) &&& z) = 0))) = true then 1 <<< i else 0)) = (orTo (bitsTo (fun c => anyTo (cvf PF z c) 16) i) (1 <<< i) (cvf PF z i) (j + 1)) from (by rw [orTo]; show _ = _ ||| (if (decide ((z >>> j) &&& 1 = 1) && !decide (PF i j &&& z = 0)) = true then 1 <<< i else 0); first | rw [decide_eq_true (show (z >>> j) &&& 1 = 1 from by assumption), Bool.true_and] | (rw [decide_eq_false (show ¬ (z >>> j) &&& 1 = 1 from by assumption), Bool.false_and]; rfl))] at hl
                exact ih16 (j + 1) (by omega) (by first | rfl | omega | assumption) _ _  hS _ (lv_sub hl [3, 4, 1, 5, 0] rfl)
        exact loop16 _ 0 (Nat.lt_succ_self _) (by first | rfl | omega | assumption) _ _  hS _ (lv_sub hl [1, 2, 3, 4, 0] rfl)
  exact loop4 _ 0 (Nat.lt_succ_self _) (by first | rfl | omega | assumption) _ _  hS _ (lv_sub hl [2, 3, 1, 0] rfl)

abbrev rm_X14_pairs : Room := { frames := 1, cells := 0, slots := 0, locals := 20 }
set_option maxHeartbeats 4000000 in
theorem cx_X14_pairs (l : Launch) (w : Wd) (tb : Nat) (d : Nat) (rl : Nat) (al : Nat) (oc : Nat) (vs : Nat) (ak : Nat) (dc : Nat) (pt : Nat) (x0 : Nat) (cm : Nat) (pr : Nat → Nat) (PF : Nat → Nat → Nat) (q : Nat) (hq : q < cm) (hcm : cm ≤ 8) (hpf : ∀ c v, PF c v < 65536) : Ctr (GX w) l yX14_pairs cX14_pairs 4 (some .int) rm_X14_pairs [.ref tb, .int (nI q)] (fun H => va_at w.D clA (tb, .inr (16, [.ref d, .int (nI rl), .int (nI al), .ref oc, .ref vs, .ref ak, .ref dc, .ref pt, .ref x0])) H ∧ PTP w pt cm pr PF H) (fun _ vR _ => vR = some (.int (nI (smF (PF q) 16 / 2)))) (fun _ => False) := by
  refine Ctr.mk (by decide +kernel) (Nat.le_of_ble_eq_true rfl) ?_
  intro p e s m a below meth c Q ls S B hin hG hP hl
  have S : CallFix p m c cX14_pairs 4 s a lw_all RX14 := S
  have hl : lv_has ls 4 [(0, .ref tb), (1, .int (nI q))] := hl
  have hK := hG.kn
  obtain ⟨h_tb, h_pp⟩ := hP
  obtain ⟨A, hAe⟩ : ∃ A : Nat → Prop, A = (fun _ => False) := ⟨_, rfl⟩
  rw [← hAe] at B
  have hS : Sx A s s.heap [] := Sx.rf
  generalize ([] : List Loc) = locs at hS ⊢
  have hAn : ∀ q, ¬ A q := fun q h => by rw [hAe] at h; exact h
  have hA0 : ∀ q, A q → w.b0 ≤ q := fun q h => (hAn q h).elim
  have hSl := hS.le
  have h_pt := h_pp.1
  have hrow := h_pp.2
  refine lv_iconst (v := (nI 0)) S.1 S.2.1 dX14_pairs_0 (by decide) ?_
  refine lv_istore_n (lv' := [(2, .int (nI 0)), (0, .ref tb), (1, .int (nI q))]) S.1 S.2.1 dX14_pairs_1 rfl hl (by decide) rfl (fun ls hl => ?_)
  refine lv_iconst (v := (nI 0)) S.1 S.2.1 dX14_pairs_2 (by decide) ?_
  refine lv_istore_n (lv' := [(3, .int (nI 0)), (2, .int (nI 0)), (0, .ref tb), (1, .int (nI q))]) S.1 S.2.1 dX14_pairs_3 rfl hl (by decide) rfl (fun ls hl => ?_)
  have loop4 : ∀ (n_1 : Nat) (i : Nat), 16 - i < n_1 → ∀ (hi : i ≤ 16) (H : Heap) (locs : List Loc) (_ : Sx A s H locs) (ls : Array Slot), lv_has ls 4 [(0, .ref tb), (1, .int (nI q)), (2, .int (nI (smF (PF q) i))), (3, .int (nI i))] → W p l e rm_X14_pairs s m a below meth c H locs 0 0 Q (F0 m 4 ls []) := by
    intro n_1
    induction n_1 with
    | zero => intro i hz; exact absurd hz (Nat.not_lt_zero _)
    | succ n_1 ih4 =>
      intro i hm4 hi H locs  hS ls hl
      have hSl := hS.le
      refine lv_iload_n S.1 S.2.1 dX14_pairs_4 rfl (lv_at hl 3 rfl) ?_
      refine lv_bipush (v := (nI 16)) S.1 S.2.1 dX14_pairs_5 (by decide) ?_
      refine n_icmp_ge (tgt := 30) S dX14_pairs_7 (by decide) (by have := smF_le (PF q) i; omega) (by decide) (fun h_2 => ?_) (fun h_2 => ?_)
      · skip
        refine lv_iload_n S.1 S.2.1 dX14_pairs_30 rfl (lv_at hl 2 rfl) ?_
        refine lv_iconst (v := (nI 2)) S.1 S.2.1 dX14_pairs_31 (by decide) ?_
        refine n_idiv S dX14_pairs_32 (by have := smF_le (PF q) i; omega) (by decide) (by decide) ?_
        have er : ((smF (PF q) i) / 2) = (smF (PF q) 16 / 2) := by 
          have e0 : i = 16 := by omega
          rw [e0]
        exact r_iret S B hS dX14_pairs_33 rfl (Nat.le_of_ble_eq_true rfl) (Nat.le_of_ble_eq_true rfl) (congrArg (fun z : Nat => some (Value.int (nI z))) er)
      · skip
        refine lv_iload_n S.1 S.2.1 dX14_pairs_10 rfl (lv_at hl 2 rfl) ?_
        refine lv_aload_n S.1 S.2.1 dX14_pairs_11 rfl (lv_at hl 0 rfl) ?_
        refine x_get S cc_X14 (va_at.old h_tb hS (hAn _)) hK (v := .ref pt) 7 (by decide) q1550 (fun _ hx => hx) rfl dX14_pairs_12 ?_
        refine lv_iload_n S.1 S.2.1 dX14_pairs_15 rfl (lv_at hl 1 rfl) ?_
        have h_row : va_at w.D clA (pr q, .inl (w.dA 0, 16, .inl (fun v => nI (PF q v)))) s.heap := hrow q hq
        refine x_aald S 6 (ty := .array .int) (va_at.old h_pt hS (hAn _)) hK rfl rfl (i := q) (by show _ < (_ : Nat); first | assumption | omega) (by first | decide | omega) (v := .ref (pr q)) rfl dX14_pairs_16 ?_
        refine lv_iload_n S.1 S.2.1 dX14_pairs_17 rfl (lv_at hl 3 rfl) ?_
        refine x_iald S (i := i) (f := PF q) (va_at.old h_row hS (hAn _)) hK (by show _ < (_ : Nat); first | assumption | omega) (by first | decide | omega) dX14_pairs_18 ?_
        refine r_callS S (cx_J21_bitCount l w ((PF q) i) (hpf _ _)) (lw_S q1584 q1493 q83 q1494) ⟨by decide +kernel, by decide +kernel, by show _ = some 1; decide +kernel⟩ ⟨Nat.le_of_ble_eq_true rfl, Nat.le_of_ble_eq_true rfl⟩ (GX.blind w) (hG.at hS hA0) trivial hl.1 (rest := [.int (nI (smF (PF q) i))]) rfl (Nat.le_of_ble_eq_true rfl) dX14_pairs_19 ⟨(Nat.le_of_ble_eq_true rfl), (Nat.le_of_ble_eq_true rfl)⟩ hS (fun _ h => h.elim) (fun vR H locs hp hz hk hS => ?_)
        subst hp
        have hSl := hS.le
        refine W.eq (g2 := F0 m 22 ls [.int (nI (popc ((PF q) i))), .int (nI (smF (PF q) i))]) rfl ?_
        refine n_iadd S dX14_pairs_22 ?_
        refine lv_istore_n (lv' := [(2, .int (nI ((smF (PF q) i) + (popc ((PF q) i))))), (0, .ref tb), (1, .int (nI q)), (3, .int (nI i))]) S.1 S.2.1 dX14_pairs_23 rfl hl (by decide) rfl (fun ls hl => ?_)
        refine lv_iinc (v := (nI (i + 1))) (lv' := [(3, .int (nI (i + 1))), (2, .int (nI ((smF (PF q) i) + (popc ((PF q) i))))), (0, .ref tb), (1, .int (nI q))]) S.1 S.2.1 dX14_pairs_24 hl (k := 3) rfl (nI_add _ _) (by decide) rfl (fun ls hl => ?_)
        refine lv_goto (tgt := 4) S.1 S.2.1 dX14_pairs_27 (by decide) ?_
        exact ih4 (i + 1) (by omega) (by first | rfl | omega | assumption) _ _  hS _ (lv_sub hl [2, 3, 1, 0] rfl)
  exact loop4 _ 0 (Nat.lt_succ_self _) (by first | rfl | omega | assumption) _ _  hS _ (lv_sub hl [2, 3, 1, 0] rfl)

abbrev rm_X14_possible : Room := { frames := 1, cells := 0, slots := 0, locals := 25 }
set_option maxHeartbeats 4000000 in
theorem cx_X14_possible (l : Launch) (w : Wd) (tb : Nat) (d : Nat) (rl : Nat) (al : Nat) (oc : Nat) (vs : Nat) (ak : Nat) (dc : Nat) (pt : Nat) (x0 : Nat) (cm : Nat) (pr : Nat → Nat) (PF : Nat → Nat → Nat) (hcm : cm ≤ 8) (hpf : ∀ c v, PF c v < 65536) : Ctr (GX w) l yX14_possible cX14_possible 1 (some .int) rm_X14_possible [.ref tb] (fun H => va_at w.D clA (tb, .inr (16, [.ref d, .int (nI rl), .int (nI al), .ref oc, .ref vs, .ref ak, .ref dc, .ref pt, .ref x0])) H ∧ PTP w pt cm pr PF H) (fun _ vR _ => vR = some (.int (nI (cvN PF cm 65535)))) (fun _ => False) := by
  refine Ctr.mk (by decide +kernel) (Nat.le_of_ble_eq_true rfl) ?_
  intro p e s m a below meth c Q ls S B hin hG hP hl
  have S : CallFix p m c cX14_possible 1 s a lw_all RX14 := S
  have hl : lv_has ls 1 [(0, .ref tb)] := hl
  have hK := hG.kn
  obtain ⟨h_tb, h_pp⟩ := hP
  obtain ⟨A, hAe⟩ : ∃ A : Nat → Prop, A = (fun _ => False) := ⟨_, rfl⟩
  rw [← hAe] at B
  have hS : Sx A s s.heap [] := Sx.rf
  generalize ([] : List Loc) = locs at hS ⊢
  have hAn : ∀ q, ¬ A q := fun q h => by rw [hAe] at h; exact h
  have hA0 : ∀ q, A q → w.b0 ≤ q := fun q h => (hAn q h).elim
  have hSl := hS.le
  have h_pt := h_pp.1
  have hrow := h_pp.2
  refine lv_aload_n S.1 S.2.1 dX14_possible_0 rfl (lv_at hl 0 rfl) ?_
  refine n_ldc S (n := 65535) q1623 (by decide) dX14_possible_1 ?_
  refine r_callV S (C := "ConditionWise$Table") (cx_X14_covered l w tb d rl al oc vs ak dc pt x0 cm pr PF 65535 (show 65535 < 65536 by decide) hcm hpf) (lw_V q1624 q1625 q1626 q100 q1627) ⟨rfl, by decide +kernel, by decide +kernel, by show _ = some 1; decide +kernel⟩ ⟨Nat.le_of_ble_eq_true rfl, Nat.le_of_ble_eq_true rfl⟩ (r_recv h_tb hK (q := (RX14, TX14, 9)) rfl) (GX.blind w) (hG.at hS hA0) ⟨h_tb, h_pp⟩ hl.1 (rest := []) rfl (Nat.le_of_ble_eq_true rfl) dX14_possible_3 ⟨(Nat.le_of_ble_eq_true rfl), (Nat.le_of_ble_eq_true rfl)⟩ hS (fun _ h => h.elim) (fun vR H locs hp hz hk hS => ?_)
  subst hp
  have hSl := hS.le
  refine W.eq (g2 := F0 m 6 ls [.int (nI (cvN PF cm 65535))]) rfl ?_
  have er : (cvN PF cm 65535) = (cvN PF cm 65535) := by rfl
  exact r_iret S B hS dX14_possible_6 rfl (Nat.le_of_ble_eq_true rfl) (Nat.le_of_ble_eq_true rfl) (congrArg (fun z : Nat => some (Value.int (nI z))) er)
