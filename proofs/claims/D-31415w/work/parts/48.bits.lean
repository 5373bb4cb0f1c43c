set_option maxRecDepth 100000
theorem bc_sub (x : Nat) : x >>> 1 &&& 1431655765 ≤ x := Nat.le_trans Nat.and_le_left (Nat.shiftRight_le x 1)
theorem bc_2 {y : Nat} (h : y < 65536) : (y &&& 858993459) + (y >>> 2 &&& 858993459) < 131072 := by
  have h1 : y &&& 858993459 ≤ y := Nat.and_le_left
  have h2 : y >>> 2 &&& 858993459 ≤ y := Nat.le_trans Nat.and_le_left (Nat.shiftRight_le y 2)
  omega
theorem bc_3 {y : Nat} (h : y < 131072) : (y + y >>> 4) &&& 252645135 < 262144 := by
  have h1 : (y + y >>> 4) &&& 252645135 ≤ y + y >>> 4 := Nat.and_le_left
  have h2 : y >>> 4 ≤ y := Nat.shiftRight_le y 4
  omega
theorem bc_4 {y : Nat} (h : y < 262144) : y + y >>> 8 < 524288 := by
  have h2 : y >>> 8 ≤ y := Nat.shiftRight_le y 8
  omega
def bcE (x : Nat) : Nat :=
  let y1 := x - (x >>> 1 &&& 1431655765)
  let y2 := (y1 &&& 858993459) + (y1 >>> 2 &&& 858993459)
  let y3 := (y2 + y2 >>> 4) &&& 252645135
  let y4 := y3 + y3 >>> 8
  (y4 + y4 >>> 16) &&& 63
def p8 (x : Nat) : Nat := x % 2 + x / 2 % 2 + x / 4 % 2 + x / 8 % 2 + x / 16 % 2 + x / 32 % 2 + x / 64 % 2 + x / 128 % 2
theorem bc_tab : ∀ h, h < 256 → ∀ l, l < 256 → bcE (256 * h + l) = p8 h + p8 l := by decide +kernel
theorem p8_cnt : ∀ x, x < 256 → cntTo (Nat.testBit x) 8 = p8 x := by decide +kernel
theorem cntTo_add (f : Nat → Bool) (m n : Nat) : cntTo f (m + n) = cntTo f m + cntTo (fun k => f (m + k)) n := by
  induction n with
  | zero => rfl
  | succ n ih => rw [← Nat.add_assoc, cntTo, cntTo, ih]; omega
theorem cntTo_no {f : Nat → Bool} {n : Nat} (h : ∀ k, k < n → f k = false) : cntTo f n = 0 := by
  induction n with
  | zero => rfl
  | succ n ih => rw [cntTo, ih (fun k hk => h k (by omega)), h n (by omega)]; rfl
theorem cntTo_eq {f g : Nat → Bool} {n : Nat} (h : ∀ k, k < n → f k = g k) : cntTo f n = cntTo g n := by
  induction n with
  | zero => rfl
  | succ n ih => rw [cntTo, cntTo, ih (fun k hk => h k (by omega)), h n (by omega)]
theorem popc_16 {x : Nat} (hx : x < 65536) : popc x = p8 (x / 256) + p8 (x % 256) := by
  rw [popc, cntTo_add _ 16 16, cntTo_add _ 8 8]
  have e1 : cntTo (Nat.testBit x) 8 = p8 (x % 256) := by
    rw [← p8_cnt (x % 256) (by omega)]
    refine cntTo_eq fun k hk => ?_
    have : (256 : Nat) = 2 ^ 8 := by decide
    rw [this, Nat.testBit_mod_two_pow, decide_eq_true hk, Bool.true_and]
  have e2 : cntTo (fun k => Nat.testBit x (8 + k)) 8 = p8 (x / 256) := by
    rw [← p8_cnt (x / 256) (by omega)]
    refine cntTo_eq fun k hk => ?_
    have : (256 : Nat) = 2 ^ 8 := by decide
    rw [this, Nat.testBit_div_two_pow, Nat.add_comm]
  have e3 : cntTo (fun k => Nat.testBit x (16 + k)) 16 = 0 := cntTo_no fun k hk => Nat.testBit_lt_two_pow (Nat.lt_of_lt_of_le (show x < 2 ^ 16 from hx) (Nat.pow_le_pow_right (by decide) (Nat.le_add_right 16 k)))
  rw [e1, e2, e3]; omega
theorem bc_all {x : Nat} (hx : x < 65536) : bcE x = popc x := by
  rw [popc_16 hx, ← bc_tab (x / 256) (by omega) (x % 256) (by omega), Nat.div_add_mod]
abbrev rm_J21_bitCount : Room := { frames := 0, cells := 0, slots := 0, locals := 0 }
set_option maxHeartbeats 4000000 in
theorem cx_J21_bitCount (l : Launch) (w : Wd) (x : Nat) (hx : x < 65536) : Ctr (GX w) l yJ21_bitCount cJ21_bitCount 1 (some .int) rm_J21_bitCount [.int (nI x)] (fun _ => True) (fun _ vR _ => vR = some (.int (nI (popc x)))) (fun _ => False) := by
  refine Ctr.mk (by decide +kernel) (Nat.le_of_ble_eq_true rfl) ?_
  intro p e s m a below meth c Q ls S B hin hG hP hl
  have S : CallFix p m c cJ21_bitCount 1 s a lw_all RJ21 := S
  have hl : lv_has ls 1 [(0, .int (nI x))] := hl
  have hK := hG.kn
  obtain ⟨A, hAe⟩ : ∃ A : Nat → Prop, A = (fun _ => False) := ⟨_, rfl⟩
  rw [← hAe] at B
  have hS : Sx A s s.heap [] := Sx.rf
  generalize ([] : List Loc) = locs at hS ⊢
  have hAn : ∀ q, ¬ A q := fun q h => by rw [hAe] at h; exact h
  have hA0 : ∀ q, A q → w.b0 ≤ q := fun q h => (hAn q h).elim
  have hSl := hS.le
  refine lv_iload_n S.1 S.2.1 dJ21_bitCount_0 rfl (lv_at hl 0 rfl) ?_
  refine lv_iload_n S.1 S.2.1 dJ21_bitCount_1 rfl (lv_at hl 0 rfl) ?_
  refine lv_iconst (v := (nI 1)) S.1 S.2.1 dJ21_bitCount_2 (by decide) ?_
  refine n_iushr S dJ21_bitCount_3 (Nat.lt_trans hx (by decide)) (by omega) ?_
  refine lv_ldcw (v := nI 1431655765) S.1 S.2.1 S.2.2.2.1 (S.2.2.2.2 _ q1495) dJ21_bitCount_4 ?_
  refine n_iand S dJ21_bitCount_7 ?_
  refine n_isub S dJ21_bitCount_8 (bc_sub x) ?_
  refine lv_istore_n (lv' := [(0, .int (nI (x - ((x >>> 1) &&& 1431655765))))]) S.1 S.2.1 dJ21_bitCount_9 rfl hl (by decide) rfl (fun ls hl => ?_)
  obtain ⟨y1, e1⟩ : ∃ z : Nat, z = (x - ((x >>> 1) &&& 1431655765)) := ⟨_, rfl⟩
  rw [← e1] at hl
  refine lv_iload_n S.1 S.2.1 dJ21_bitCount_10 rfl (lv_at hl 0 rfl) ?_
  have b1 : y1 < 65536 := by rw [e1]; exact Nat.lt_of_le_of_lt (Nat.sub_le _ _) hx
  refine lv_ldcw (v := nI 858993459) S.1 S.2.1 S.2.2.2.1 (S.2.2.2.2 _ q1496) dJ21_bitCount_11 ?_
  refine n_iand S dJ21_bitCount_14 ?_
  refine lv_iload_n S.1 S.2.1 dJ21_bitCount_15 rfl (lv_at hl 0 rfl) ?_
  refine lv_iconst (v := (nI 2)) S.1 S.2.1 dJ21_bitCount_16 (by decide) ?_
  refine n_iushr S dJ21_bitCount_17 (Nat.lt_trans b1 (by decide)) (by omega) ?_
  refine lv_ldcw (v := nI 858993459) S.1 S.2.1 S.2.2.2.1 (S.2.2.2.2 _ q1496) dJ21_bitCount_18 ?_
  refine n_iand S dJ21_bitCount_21 ?_
  refine n_iadd S dJ21_bitCount_22 ?_
  refine lv_istore_n (lv' := [(0, .int (nI ((y1 &&& 858993459) + ((y1 >>> 2) &&& 858993459))))]) S.1 S.2.1 dJ21_bitCount_23 rfl hl (by decide) rfl (fun ls hl => ?_)
  obtain ⟨y2, e2⟩ : ∃ z : Nat, z = ((y1 &&& 858993459) + ((y1 >>> 2) &&& 858993459)) := ⟨_, rfl⟩
  rw [← e2] at hl
  refine lv_iload_n S.1 S.2.1 dJ21_bitCount_24 rfl (lv_at hl 0 rfl) ?_
  have b2 : y2 < 131072 := by rw [e2]; exact bc_2 b1
  refine lv_iload_n S.1 S.2.1 dJ21_bitCount_25 rfl (lv_at hl 0 rfl) ?_
  refine lv_iconst (v := (nI 4)) S.1 S.2.1 dJ21_bitCount_26 (by decide) ?_
  refine n_iushr S dJ21_bitCount_27 (Nat.lt_trans b2 (by decide)) (by omega) ?_
  refine n_iadd S dJ21_bitCount_28 ?_
  refine lv_ldcw (v := nI 252645135) S.1 S.2.1 S.2.2.2.1 (S.2.2.2.2 _ q1497) dJ21_bitCount_29 ?_
  refine n_iand S dJ21_bitCount_32 ?_
  refine lv_istore_n (lv' := [(0, .int (nI ((y2 + (y2 >>> 4)) &&& 252645135)))]) S.1 S.2.1 dJ21_bitCount_33 rfl hl (by decide) rfl (fun ls hl => ?_)
  obtain ⟨y3, e3⟩ : ∃ z : Nat, z = ((y2 + (y2 >>> 4)) &&& 252645135) := ⟨_, rfl⟩
  rw [← e3] at hl
  refine lv_iload_n S.1 S.2.1 dJ21_bitCount_34 rfl (lv_at hl 0 rfl) ?_
  have b3 : y3 < 262144 := by rw [e3]; exact bc_3 b2
  refine lv_iload_n S.1 S.2.1 dJ21_bitCount_35 rfl (lv_at hl 0 rfl) ?_
  refine lv_bipush (v := (nI 8)) S.1 S.2.1 dJ21_bitCount_36 (by decide) ?_
  refine n_iushr S dJ21_bitCount_38 (Nat.lt_trans b3 (by decide)) (by omega) ?_
  refine n_iadd S dJ21_bitCount_39 ?_
  refine lv_istore_n (lv' := [(0, .int (nI (y3 + (y3 >>> 8))))]) S.1 S.2.1 dJ21_bitCount_40 rfl hl (by decide) rfl (fun ls hl => ?_)
  obtain ⟨y4, e4⟩ : ∃ z : Nat, z = (y3 + (y3 >>> 8)) := ⟨_, rfl⟩
  rw [← e4] at hl
  refine lv_iload_n S.1 S.2.1 dJ21_bitCount_41 rfl (lv_at hl 0 rfl) ?_
  have b4 : y4 < 524288 := by rw [e4]; exact bc_4 b3
  refine lv_iload_n S.1 S.2.1 dJ21_bitCount_42 rfl (lv_at hl 0 rfl) ?_
  refine lv_bipush (v := (nI 16)) S.1 S.2.1 dJ21_bitCount_43 (by decide) ?_
  refine n_iushr S dJ21_bitCount_45 (Nat.lt_trans b4 (by decide)) (by omega) ?_
  refine n_iadd S dJ21_bitCount_46 ?_
  refine lv_istore_n (lv' := [(0, .int (nI (y4 + (y4 >>> 16))))]) S.1 S.2.1 dJ21_bitCount_47 rfl hl (by decide) rfl (fun ls hl => ?_)
  obtain ⟨y5, e5⟩ : ∃ z : Nat, z = (y4 + (y4 >>> 16)) := ⟨_, rfl⟩
  rw [← e5] at hl
  refine lv_iload_n S.1 S.2.1 dJ21_bitCount_48 rfl (lv_at hl 0 rfl) ?_
  refine lv_bipush (v := (nI 63)) S.1 S.2.1 dJ21_bitCount_49 (by decide) ?_
  refine n_iand S dJ21_bitCount_51 ?_
  have er : (y5 &&& 63) = (popc x) := by rw [e5, e4, e3, e2, e1]; exact bc_all hx
  exact r_iret S B hS dJ21_bitCount_52 rfl (Nat.le_of_ble_eq_true rfl) (Nat.le_of_ble_eq_true rfl) (congrArg (fun z : Nat => some (Value.int (nI z))) er)
