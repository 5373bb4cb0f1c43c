set_option maxRecDepth 100000
/-! the bit sets of asked conditions: one word -/
def lI (n : Nat) : Int64 := Int64.ofNat n
theorem lI_or (x y : Nat) : lI x ||| lI y = lI (x ||| y) := by
  apply Int64.toBitVec_inj.mp
  show BitVec.ofNat 64 x ||| BitVec.ofNat 64 y = BitVec.ofNat 64 (x ||| y)
  rw [BitVec.ofNat_or]
theorem lI_and (x y : Nat) : lI x &&& lI y = lI (x &&& y) := by
  apply Int64.toBitVec_inj.mp
  show BitVec.ofNat 64 x &&& BitVec.ofNat 64 y = BitVec.ofNat 64 (x &&& y)
  rw [BitVec.ofNat_and]
theorem lI_bit {k : Nat} (h : k < 8) : (1 : Int64) <<< ((nI k).toInt64 &&& 63) = lI (1 <<< k) := by
  revert k; decide +kernel
theorem lI_zero {x : Nat} (h : x < 2 ^ 63) : lI x = 0 ↔ x = 0 := by
  constructor
  · intro e
    have a := congrArg (fun z : Int64 => z.toBitVec.toNat) e
    have b : (BitVec.ofNat 64 x).toNat = (BitVec.ofNat 64 0).toNat := a
    rw [BitVec.toNat_ofNat, BitVec.toNat_ofNat] at b
    omega
  · rintro rfl; rfl
theorem cmp_zero (x : Int64) : lg_cmp x 0 = 0 ↔ x = 0 := lg_cmp_eq x 0
def bsP (w : Wd) (bs wd x : Nat) (H : Heap) : Prop := ∃ (u : Nat) (f : Nat → Int64), va_at w.D clA (bs, .inr (14, [.ref wd, .int (nI u), .int (nI (Bool.toNat true))])) H ∧ va_at w.D clA (wd, .inl (w.dA 2, 1, .inr (.inl f))) H ∧ bs ≠ wd ∧ f 0 = lI x ∧ u ≤ 1 ∧ (x ≠ 0 → u = 1) ∧ x < 256
theorem bsP.mono {w : Wd} {bs wd x : Nat} {H H1 : Heap} (h : bsP w bs wd x H) (h1 : H1[bs]? = H[bs]?) (h2 : H1[wd]? = H[wd]?) : bsP w bs wd x H1 := by
  obtain ⟨u, f, a, b, r⟩ := h
  exact ⟨u, f, a.kept h1, b.kept h2, r⟩
def runP (w : Wd) (r bs wd v : Nat) (t : Int32) (x : Nat) (H : Heap) : Prop := va_at w.D clA (r, .inr (13, [.int (nI v), .int t, .ref bs])) H ∧ bsP w bs wd x H ∧ r ≠ bs ∧ r ≠ wd
theorem or_lt {x k : Nat} (h : x < 256) (hk : k < 8) : x ||| 1 <<< k < 256 := by
  apply Nat.or_lt_two_pow (n := 8) h
  rw [Nat.one_shiftLeft]
  exact Nat.pow_lt_pow_right (by omega) hk
theorem and_bit {x k : Nat} : x &&& 1 <<< k = 0 ↔ x.testBit k = false := by
  rw [Nat.one_shiftLeft]
  constructor
  · intro e
    have a := congrArg (fun z => Nat.testBit z k) e
    simp [Nat.testBit_and, Nat.testBit_two_pow] at a
    exact a
  · intro e
    apply Nat.eq_of_testBit_eq
    intro i
    rw [Nat.testBit_and, Nat.testBit_two_pow, Nat.zero_testBit]
    by_cases h : k = i
    · subst h; simp [e]
    · simp [h]
theorem get_bit {x k : Nat} (hx : x < 256) (hk : k < 8) : lg_cmp (lI x &&& lI (1 <<< k)) 0 = 0 ↔ x.testBit k = false := by
  rw [cmp_zero, lI_and, lI_zero (Nat.lt_of_le_of_lt Nat.and_le_left (Nat.lt_trans hx (by decide))), and_bit]
theorem bsP.lt {w : Wd} {bs wd x : Nat} {H : Heap} (h : bsP w bs wd x H) : bs < H.size ∧ wd < H.size := by
  obtain ⟨u, f, a, b, r⟩ := h
  exact ⟨a.lt, b.lt⟩
theorem bsP.ne {w : Wd} {bs wd x : Nat} {H : Heap} (h : bsP w bs wd x H) : bs ≠ wd := by
  obtain ⟨u, f, a, b, r, -⟩ := h
  exact r
abbrev rm_J28_wordIndex : Room := { frames := 0, cells := 0, slots := 0, locals := 0 }
set_option maxHeartbeats 4000000 in
theorem cx_J28_wordIndex (l : Launch) (w : Wd) (n : Nat) (hn : n < 64) : Ctr (GX w) l yJ28_wordIndex cJ28_wordIndex 1 (some .int) rm_J28_wordIndex [.int (nI n)] (fun _ => True) (fun _ vR _ => vR = some (.int (nI 0))) (fun _ => False) := by
  refine Ctr.mk (by decide +kernel) (Nat.le_of_ble_eq_true rfl) ?_
  intro p e s m a below meth c Q ls S B hin hG hP hl
  have S : CallFix p m c cJ28_wordIndex 1 s a lw_all RJ28 := S
  have hl : lv_has ls 1 [(0, .int (nI n))] := hl
  have hK := hG.kn
  obtain ⟨A, hAe⟩ : ∃ A : Nat → Prop, A = (fun _ => False) := ⟨_, rfl⟩
  rw [← hAe] at B
  have hS : Sx A s s.heap [] := Sx.rf
  generalize ([] : List Loc) = locs at hS ⊢
  have hAn : ∀ q, ¬ A q := fun q h => by rw [hAe] at h; exact h
  have hA0 : ∀ q, A q → w.b0 ≤ q := fun q h => (hAn q h).elim
  have hSl := hS.le
  refine lv_iload_n S.1 S.2.1 dJ28_wordIndex_0 rfl (lv_at hl 0 rfl) ?_
  refine lv_bipush (v := (nI 6)) S.1 S.2.1 dJ28_wordIndex_1 (by decide) ?_
  refine n_ishr S dJ28_wordIndex_3 (by omega) (by decide) ?_
  have er : (n >>> 6) = (0) := by rw [Nat.shiftRight_eq_div_pow]; omega
  exact r_iret S B hS dJ28_wordIndex_4 rfl (Nat.le_of_ble_eq_true rfl) (Nat.le_of_ble_eq_true rfl) (congrArg (fun z : Nat => some (Value.int (nI z))) er)

abbrev rm_J28_initWords : Room := { frames := 1, cells := 1, slots := 1, locals := 20 }
set_option maxHeartbeats 4000000 in
theorem cx_J28_initWords (l : Launch) (w : Wd) (bs : Nat) (hb_0 : w.b0 ≤ bs) : Ctr (GX w) l yJ28_initWords cJ28_initWords 2 none rm_J28_initWords [.ref bs, .int (nI 8)] (fun H => va_at w.D clA (bs, .inr (14, [.null, .int (nI 0), .int (nI (Bool.toNat false))])) H) (fun H vR H1 => ∃ (wd : Nat), vR = none ∧ H.size ≤ wd ∧ va_at w.D clA (bs, .inr (14, [.ref wd, .int (nI 0), .int (nI (Bool.toNat false))])) H1 ∧ va_at w.D clA (wd, .inl (w.dA 2, 1, .inr (.inl (fun _ => 0)))) H1) (fun q => q = bs) := by
  refine Ctr.mk (by decide +kernel) (Nat.le_of_ble_eq_true rfl) ?_
  intro p e s m a below meth c Q ls S B hin hG hP hl
  have S : CallFix p m c cJ28_initWords 2 s a lw_all RJ28 := S
  have hl : lv_has ls 2 [(0, .ref bs), (1, .int (nI 8))] := hl
  have hK := hG.kn
  have h_bs := hP
  obtain ⟨A, hAe⟩ : ∃ A : Nat → Prop, A = (fun q => q = bs) := ⟨_, rfl⟩
  rw [← hAe] at B
  have hS : Sx A s s.heap [] := Sx.rf
  generalize ([] : List Loc) = locs at hS ⊢
  have hA0 : ∀ q, A q → w.b0 ≤ q := fun q h => by rw [hAe] at h; exact (fun e => by rw [e]; exact hb_0) h
  have hA_0 : A bs := Eq.mpr (congrFun hAe _) (rfl)
  have hSl := hS.le
  refine lv_aload_n S.1 S.2.1 dJ28_initWords_0 rfl (lv_at hl 0 rfl) ?_
  refine lv_iload_n S.1 S.2.1 dJ28_initWords_1 rfl (lv_at hl 1 rfl) ?_
  refine lv_iconst (v := (nI 1)) S.1 S.2.1 dJ28_initWords_2 (by decide) ?_
  refine n_isub S dJ28_initWords_3 (by omega) ?_
  refine W.eq (g2 := F0 m 4 ls [.int (nI 7), .ref bs]) rfl ?_
  refine r_callS S (cx_J28_wordIndex l w 7 (show 7 < 64 by first | omega | assumption | exact b_lt _ | exact Nat.lt_of_le_of_lt Nat.and_le_right (by decide) | exact Nat.lt_of_le_of_lt Nat.and_le_right (by omega) | exact Nat.lt_of_le_of_lt Nat.and_le_left (by omega))) (lw_S q1306 q1307 q98 q1308) ⟨by decide +kernel, by decide +kernel, by show _ = some 1; decide +kernel⟩ ⟨Nat.le_of_ble_eq_true rfl, Nat.le_of_ble_eq_true rfl⟩ (GX.blind w) (hG.at hS hA0) trivial hl.1 (rest := [.ref bs]) rfl (Nat.le_of_ble_eq_true rfl) dJ28_initWords_4 ⟨(Nat.le_of_ble_eq_true rfl), (Nat.le_of_ble_eq_true rfl)⟩ hS (fun _ h => h.elim) (fun vR H locs hp hz hk hS => ?_)
  subst hp
  have h_bs : va_at w.D clA (bs, .inr (14, [.null, .int (nI 0), .int (nI (Bool.toNat false))])) H := kept_of h_bs hk (fun h => h)
  have hSl := hS.le
  refine W.eq (g2 := F0 m 7 ls [.int (nI 0), .ref bs]) rfl ?_
  refine lv_iconst (v := (nI 1)) S.1 S.2.1 dJ28_initWords_7 (by decide) ?_
  refine n_iadd S dJ28_initWords_8 ?_
  refine W.eq (g2 := F0 m 9 ls [.int (nI 1), .ref bs]) rfl ?_
  refine x_newa S hK (atype := .long) (n := 1) 2 rfl rfl q1319 (a0 := (1, .inr (.inl (fun _ => 0)))) (fun _ => rfl) (by decide) (Nat.le_of_ble_eq_true rfl) (Nat.le_of_ble_eq_true rfl) (Nat.le_of_ble_eq_true rfl) dJ28_initWords_9 hS (fun wd H h_wd hn hz ho hS => ?_)
  have le_wd : s.heap.size ≤ wd := Nat.le_trans hSl hn
  have ne_1 : bs ≠ wd := at_nw h_bs hn
  have h_bs : va_at w.D clA (bs, .inr (14, [.null, .int (nI 0), .int (nI (Bool.toNat false))])) H := va_at.kept h_bs (ho _ (at_lt h_bs))
  have hSl := hS.le
  refine x_put S cc_J28 h_bs hK (v := .ref wd) (fs' := [.ref wd, .int (nI 0), .int (nI (Bool.toNat false))]) 0 (by decide) q1309 (fun _ hx => hx) rfl rfl rfl (by show 0 < 3; decide) rfl dJ28_initWords_11 hS (Or.inl hA_0) (fun H locs h_bs hz ho hS => ?_)
  have h_wd : va_at w.D clA (wd, .inl (w.dA 2, 1, .inr (.inl (fun _ => 0)))) H := va_at.kept h_wd (ho _ (Ne.symm ne_1))
  have hSl := hS.le
  exact r_vret S B hS dJ28_initWords_14 (Nat.le_of_ble_eq_true rfl) (Nat.le_of_ble_eq_true rfl) ⟨wd, rfl, le_wd, h_bs, h_wd⟩

abbrev rm_J28_init : Room := { frames := 2, cells := 1, slots := 1, locals := 41 }
set_option maxHeartbeats 4000000 in
theorem cx_J28_init (l : Launch) (w : Wd) (bs : Nat) (hb_0 : w.b0 ≤ bs) : Ctr (GX w) l yJ28_init cJ28_init 2 none rm_J28_init [.ref bs, .int (nI 8)] (fun H => va_at w.D clA (bs, .inr (14, [.null, .int (nI 0), .int (nI (Bool.toNat false))])) H) (fun H vR H1 => ∃ (wd : Nat), vR = none ∧ H.size ≤ wd ∧ bsP w bs wd 0 H1) (fun q => q = bs) := by
  refine Ctr.mk (by decide +kernel) (Nat.le_of_ble_eq_true rfl) ?_
  intro p e s m a below meth c Q ls S B hin hG hP hl
  have S : CallFix p m c cJ28_init 2 s a lw_all RJ28 := S
  have hl : lv_has ls 2 [(0, .ref bs), (1, .int (nI 8))] := hl
  have hK := hG.kn
  have h_bs := hP
  obtain ⟨A, hAe⟩ : ∃ A : Nat → Prop, A = (fun q => q = bs) := ⟨_, rfl⟩
  rw [← hAe] at B
  have hS : Sx A s s.heap [] := Sx.rf
  generalize ([] : List Loc) = locs at hS ⊢
  have hA0 : ∀ q, A q → w.b0 ≤ q := fun q h => by rw [hAe] at h; exact (fun e => by rw [e]; exact hb_0) h
  have hA_0 : A bs := Eq.mpr (congrFun hAe _) (rfl)
  have hSl := hS.le
  refine lv_aload_n S.1 S.2.1 dJ28_init_0 rfl (lv_at hl 0 rfl) ?_
  refine W.objInit S.1 S.2.1 S.2.2.2.1 (S.2.2.2.2 _ q1301) (S.2.2.2.2 _ q109) (S.2.2.2.2 _ q110) rfl (by show ls.size = _; rw [hl.1, S.2.2.1]) rfl dJ28_init_1 (Nat.le_of_ble_eq_true rfl) (Nat.le_of_ble_eq_true rfl) ?_
  refine W.eq (g2 := F0 m 4 ls []) rfl ?_
  refine lv_aload_n S.1 S.2.1 dJ28_init_4 rfl (lv_at hl 0 rfl) ?_
  refine lv_iconst (v := (nI 0)) S.1 S.2.1 dJ28_init_5 (by decide) ?_
  refine x_put S cc_J28 h_bs hK (v := .int (nI 0)) (fs' := [.null, .int (nI 0), .int (nI (Bool.toNat false))]) 1 (by decide) q1310 (fun _ hx => hx) rfl rfl rfl (by show 1 < 3; decide) rfl dJ28_init_6 hS (Or.inl hA_0) (fun H locs h_bs hz ho hS => ?_)
  have hSl := hS.le
  refine lv_aload_n S.1 S.2.1 dJ28_init_9 rfl (lv_at hl 0 rfl) ?_
  refine lv_iconst (v := (nI 0)) S.1 S.2.1 dJ28_init_10 (by decide) ?_
  refine x_put S cc_J28 h_bs hK (v := .int (nI (Bool.toNat false))) (fs' := [.null, .int (nI 0), .int (nI (Bool.toNat false))]) 2 (by decide) q1311 (fun _ hx => hx) rfl (nar_b _) (fit_b _) (by show 2 < 3; decide) rfl dJ28_init_11 hS (Or.inl hA_0) (fun H locs h_bs hz ho hS => ?_)
  have hSl := hS.le
  refine lv_iload_n S.1 S.2.1 dJ28_init_14 rfl (lv_at hl 1 rfl) ?_
  refine n_if_ge (tgt := 45) S dJ28_init_15 (by decide) (by decide) ?_
  refine lv_aload_n S.1 S.2.1 dJ28_init_45 rfl (lv_at hl 0 rfl) ?_
  refine lv_iload_n S.1 S.2.1 dJ28_init_46 rfl (lv_at hl 1 rfl) ?_
  refine r_callV S (C := "java/util/BitSet") (cx_J28_initWords l w bs hb_0) (lw_V q1302 q1304 qs18 q98 q1305) ⟨rfl, by decide +kernel, by decide +kernel, by show _ = some 1; decide +kernel⟩ ⟨Nat.le_of_ble_eq_true rfl, Nat.le_of_ble_eq_true rfl⟩ (r_recv h_bs hK (q := (RJ28, TJ28, 3)) rfl) (GX.blind w) (hG.at hS hA0) h_bs hl.1 (rest := []) rfl (Nat.le_of_ble_eq_true rfl) dJ28_init_47 ⟨(Nat.le_of_ble_eq_true rfl), (Nat.le_of_ble_eq_true rfl)⟩ hS (fun q => fun e => by rw [e]; exact (Or.inl hA_0)) (fun vR H locs hp hz hk hS => ?_)
  have hl_h_bs := at_lt h_bs
  obtain ⟨wd_2, rfl, hn_wd_2, h_bs, h_wd_2⟩ := hp
  have le_wd_2 : s.heap.size ≤ wd_2 := Nat.le_trans hSl hn_wd_2
  have ne_3 : bs ≠ wd_2 := fun e => by have := hl_h_bs; omega
  have hSl := hS.le
  refine W.eq (g2 := F0 m 50 ls []) rfl ?_
  refine lv_aload_n S.1 S.2.1 dJ28_init_50 rfl (lv_at hl 0 rfl) ?_
  refine lv_iconst (v := (nI 1)) S.1 S.2.1 dJ28_init_51 (by decide) ?_
  refine x_put S cc_J28 h_bs hK (v := .int (nI (Bool.toNat true))) (fs' := [.ref wd_2, .int (nI 0), .int (nI (Bool.toNat true))]) 2 (by decide) q1311 (fun _ hx => hx) rfl (nar_b _) (fit_b _) (by show 2 < 3; decide) rfl dJ28_init_52 hS (Or.inl hA_0) (fun H locs h_bs hz ho hS => ?_)
  have h_wd_2 : va_at w.D clA (wd_2, .inl (w.dA 2, 1, .inr (.inl (fun _ => 0)))) H := va_at.kept h_wd_2 (ho _ (Ne.symm ne_3))
  have hSl := hS.le
  exact r_vret S B hS dJ28_init_55 (Nat.le_of_ble_eq_true rfl) (Nat.le_of_ble_eq_true rfl) ⟨wd_2, rfl, le_wd_2, ⟨_, _, h_bs, h_wd_2, ne_3, rfl, by decide, fun h => absurd rfl h, by decide⟩⟩

abbrev rm_J28_ensureCapacity : Room := { frames := 0, cells := 0, slots := 0, locals := 0 }
set_option maxHeartbeats 4000000 in
theorem cx_J28_ensureCapacity (l : Launch) (w : Wd) (bs : Nat) (wd : Nat) (u : Nat) (f : Nat → Int64) : Ctr (GX w) l yJ28_ensureCapacity cJ28_ensureCapacity 3 none rm_J28_ensureCapacity [.ref bs, .int (nI 1)] (fun H => va_at w.D clA (bs, .inr (14, [.ref wd, .int (nI u), .int (nI (Bool.toNat true))])) H ∧ va_at w.D clA (wd, .inl (w.dA 2, 1, .inr (.inl f))) H) (fun _ vR _ => vR = none) (fun _ => False) := by
  refine Ctr.mk (by decide +kernel) (Nat.le_of_ble_eq_true rfl) ?_
  intro p e s m a below meth c Q ls S B hin hG hP hl
  have S : CallFix p m c cJ28_ensureCapacity 3 s a lw_all RJ28 := S
  have hl : lv_has ls 3 [(0, .ref bs), (1, .int (nI 1))] := hl
  have hK := hG.kn
  obtain ⟨h_bs, h_wd⟩ := hP
  obtain ⟨A, hAe⟩ : ∃ A : Nat → Prop, A = (fun _ => False) := ⟨_, rfl⟩
  rw [← hAe] at B
  have hS : Sx A s s.heap [] := Sx.rf
  generalize ([] : List Loc) = locs at hS ⊢
  have hAn : ∀ q, ¬ A q := fun q h => by rw [hAe] at h; exact h
  have hA0 : ∀ q, A q → w.b0 ≤ q := fun q h => (hAn q h).elim
  have hSl := hS.le
  refine lv_aload_n S.1 S.2.1 dJ28_ensureCapacity_0 rfl (lv_at hl 0 rfl) ?_
  refine x_get S cc_J28 h_bs hK (v := .ref wd) 0 (by decide) q1309 (fun _ hx => hx) rfl dJ28_ensureCapacity_1 ?_
  refine x_alen S 2 (ty := .long) h_wd hK rfl dJ28_ensureCapacity_4 ?_
  refine W.eq (g2 := F0 m 5 ls [.int (nI 1)]) rfl ?_
  refine lv_iload_n S.1 S.2.1 dJ28_ensureCapacity_5 rfl (lv_at hl 1 rfl) ?_
  refine n_icmp_ge (tgt := 38) S dJ28_ensureCapacity_6 (by decide) (by decide) (by decide) (fun h_1 => ?_) (fun h_1 => ?_)
  · skip
    exact r_vret S B hS dJ28_ensureCapacity_38 (Nat.le_of_ble_eq_true rfl) (Nat.le_of_ble_eq_true rfl) rfl
  · skip
    exact absurd h_1 (by decide)

abbrev rm_J28_checkInvariants : Room := { frames := 0, cells := 0, slots := 0, locals := 0 }
set_option maxHeartbeats 4000000 in
theorem cx_J28_checkInvariants (l : Launch) (w : Wd) (bs : Nat) : Ctr (GX w) l yJ28_checkInvariants cJ28_checkInvariants 1 none rm_J28_checkInvariants [.ref bs] (fun _ => True) (fun _ vR _ => vR = none) (fun _ => False) := by
  refine Ctr.mk (by decide +kernel) (Nat.le_of_ble_eq_true rfl) ?_
  intro p e s m a below meth c Q ls S B hin hG hP hl
  have S : CallFix p m c cJ28_checkInvariants 1 s a lw_all RJ28 := S
  have hl : lv_has ls 1 [(0, .ref bs)] := hl
  have hK := hG.kn
  obtain ⟨A, hAe⟩ : ∃ A : Nat → Prop, A = (fun _ => False) := ⟨_, rfl⟩
  rw [← hAe] at B
  have hS : Sx A s s.heap [] := Sx.rf
  generalize ([] : List Loc) = locs at hS ⊢
  have hAn : ∀ q, ¬ A q := fun q h => by rw [hAe] at h; exact h
  have hA0 : ∀ q, A q → w.b0 ≤ q := fun q h => (hAn q h).elim
  have hSl := hS.le
  refine x_gets S hG 4 rfl hS hA0 q1384 rfl dJ28_checkInvariants_0 ?_
  refine W.eq (g2 := F0 m 3 ls [.int (nI (Bool.toNat true))]) rfl ?_
  refine b_if_ne (tgt := 37) S dJ28_checkInvariants_3 (by decide) (fun h_1 => ?_) (fun h_1 => ?_)
  · skip
    refine x_gets S hG 4 rfl hS hA0 q1384 rfl dJ28_checkInvariants_37 ?_
    refine W.eq (g2 := F0 m 40 ls [.int (nI (Bool.toNat true))]) rfl ?_
    refine b_if_ne (tgt := 70) S dJ28_checkInvariants_40 (by decide) (fun h_2 => ?_) (fun h_2 => ?_)
    · skip
      refine x_gets S hG 4 rfl hS hA0 q1384 rfl dJ28_checkInvariants_70 ?_
      refine W.eq (g2 := F0 m 73 ls [.int (nI (Bool.toNat true))]) rfl ?_
      refine b_if_ne (tgt := 110) S dJ28_checkInvariants_73 (by decide) (fun h_3 => ?_) (fun h_3 => ?_)
      · skip
        exact r_vret S B hS dJ28_checkInvariants_110 (Nat.le_of_ble_eq_true rfl) (Nat.le_of_ble_eq_true rfl) rfl
      · skip
        exact absurd h_3 (by decide)
    · skip
      exact absurd h_2 (by decide)
  · skip
    exact absurd h_1 (by decide)

abbrev rm_J28_expandTo : Room := { frames := 1, cells := 0, slots := 0, locals := 22 }
set_option maxHeartbeats 4000000 in
theorem cx_J28_expandTo (l : Launch) (w : Wd) (bs : Nat) (wd : Nat) (u : Nat) (f : Nat → Int64) (hu : u ≤ 1) (hb_0 : w.b0 ≤ bs) : Ctr (GX w) l yJ28_expandTo cJ28_expandTo 3 none rm_J28_expandTo [.ref bs, .int (nI 0)] (fun H => va_at w.D clA (bs, .inr (14, [.ref wd, .int (nI u), .int (nI (Bool.toNat true))])) H ∧ va_at w.D clA (wd, .inl (w.dA 2, 1, .inr (.inl f))) H) (fun _ vR H1 => vR = none ∧ va_at w.D clA (bs, .inr (14, [.ref wd, .int (nI 1), .int (nI (Bool.toNat true))])) H1) (fun q => q = bs) := by
  refine Ctr.mk (by decide +kernel) (Nat.le_of_ble_eq_true rfl) ?_
  intro p e s m a below meth c Q ls S B hin hG hP hl
  have S : CallFix p m c cJ28_expandTo 3 s a lw_all RJ28 := S
  have hl : lv_has ls 3 [(0, .ref bs), (1, .int (nI 0))] := hl
  have hK := hG.kn
  obtain ⟨h_bs, h_wd⟩ := hP
  obtain ⟨A, hAe⟩ : ∃ A : Nat → Prop, A = (fun q => q = bs) := ⟨_, rfl⟩
  rw [← hAe] at B
  have hS : Sx A s s.heap [] := Sx.rf
  generalize ([] : List Loc) = locs at hS ⊢
  have hA0 : ∀ q, A q → w.b0 ≤ q := fun q h => by rw [hAe] at h; exact (fun e => by rw [e]; exact hb_0) h
  have hA_0 : A bs := Eq.mpr (congrFun hAe _) (rfl)
  have hSl := hS.le
  refine lv_iload_n S.1 S.2.1 dJ28_expandTo_0 rfl (lv_at hl 1 rfl) ?_
  refine lv_iconst (v := (nI 1)) S.1 S.2.1 dJ28_expandTo_1 (by decide) ?_
  refine n_iadd S dJ28_expandTo_2 ?_
  refine W.eq (g2 := F0 m 3 ls [.int (nI 1)]) rfl ?_
  refine lv_istore_n (lv' := [(2, .int (nI 1)), (0, .ref bs), (1, .int (nI 0))]) S.1 S.2.1 dJ28_expandTo_3 rfl hl (by decide) rfl (fun ls hl => ?_)
  refine lv_aload_n S.1 S.2.1 dJ28_expandTo_4 rfl (lv_at hl 1 rfl) ?_
  refine x_get S cc_J28 h_bs hK (v := .int (nI u)) 1 (by decide) q1310 (fun _ hx => hx) rfl dJ28_expandTo_5 ?_
  refine lv_iload_n S.1 S.2.1 dJ28_expandTo_8 rfl (lv_at hl 0 rfl) ?_
  refine n_icmp_ge (tgt := 22) S dJ28_expandTo_9 (by decide) (by first | omega | assumption | exact b_lt _ | exact Nat.lt_of_le_of_lt Nat.and_le_right (by decide) | exact Nat.lt_of_le_of_lt Nat.and_le_right (by omega) | exact Nat.lt_of_le_of_lt Nat.and_le_left (by omega)) (by decide) (fun h_1 => ?_) (fun h_1 => ?_)
  · skip
    exact r_vret S B hS dJ28_expandTo_22 (Nat.le_of_ble_eq_true rfl) (Nat.le_of_ble_eq_true rfl) ⟨rfl, (by first | exact h_bs | (rw [show (1 : Nat) = u by omega]; exact h_bs))⟩
  · skip
    refine lv_aload_n S.1 S.2.1 dJ28_expandTo_12 rfl (lv_at hl 1 rfl) ?_
    refine lv_iload_n S.1 S.2.1 dJ28_expandTo_13 rfl (lv_at hl 0 rfl) ?_
    refine r_callV S (C := "java/util/BitSet") (cx_J28_ensureCapacity l w bs wd u f ) (lw_V q1367 q1369 qs20 q98 q1370) ⟨rfl, by decide +kernel, by decide +kernel, by show _ = some 1; decide +kernel⟩ ⟨Nat.le_of_ble_eq_true rfl, Nat.le_of_ble_eq_true rfl⟩ (r_recv h_bs hK (q := (RJ28, TJ28, 3)) rfl) (GX.blind w) (hG.at hS hA0) ⟨h_bs, h_wd⟩ hl.1 (rest := []) rfl (Nat.le_of_ble_eq_true rfl) dJ28_expandTo_14 ⟨(Nat.le_of_ble_eq_true rfl), (Nat.le_of_ble_eq_true rfl)⟩ hS (fun _ h => h.elim) (fun vR H locs hp hz hk hS => ?_)
    subst hp
    have h_bs : va_at w.D clA (bs, .inr (14, [.ref wd, .int (nI u), .int (nI (Bool.toNat true))])) H := kept_of h_bs hk (fun h => h)
    have hSl := hS.le
    refine W.eq (g2 := F0 m 17 ls []) rfl ?_
    refine lv_aload_n S.1 S.2.1 dJ28_expandTo_17 rfl (lv_at hl 1 rfl) ?_
    refine lv_iload_n S.1 S.2.1 dJ28_expandTo_18 rfl (lv_at hl 0 rfl) ?_
    refine x_put S cc_J28 h_bs hK (v := .int (nI 1)) (fs' := [.ref wd, .int (nI 1), .int (nI (Bool.toNat true))]) 1 (by decide) q1310 (fun _ hx => hx) rfl rfl rfl (by show 1 < 3; decide) rfl dJ28_expandTo_19 hS (Or.inl hA_0) (fun H locs h_bs hz ho hS => ?_)
    have hSl := hS.le
    exact r_vret S B hS dJ28_expandTo_22 (Nat.le_of_ble_eq_true rfl) (Nat.le_of_ble_eq_true rfl) ⟨rfl, (by first | exact h_bs | (rw [show (1 : Nat) = u by omega]; exact h_bs))⟩
