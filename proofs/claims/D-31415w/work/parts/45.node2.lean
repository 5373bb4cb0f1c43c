set_option maxRecDepth 100000
/-- every part of a tree can be asked -/
theorem ask_all (l : Launch) (w : Wd) {cm : Nat} (nd K O T L : Nat → Nat) (n lim x v : Nat) (t : Int32) (r bs wd : Nat) (hw : wfP K O T n cm) (hlb : lim ≤ bs) (hlw : lim ≤ wd) (hx : ∀ c, c < cm → Nat.testBit x c = (v.testBit (L c) != decide (nI c = t))) (hL : ∀ c, c < cm → L c < 4) (hcm : cm ≤ 8) (hv : v < 2 ^ 31) (hb0 : w.b0 ≤ bs) (hb1 : w.b0 ≤ wd) : ∀ i, i < n → AskC l w nd K O T L n lim x v t r bs wd i := by
  intro i
  induction i using Nat.strongRecOn with
  | ind i ih =>
    intro hi u
    have hk := (hw i hi).1
    rcases (by omega : K i = 0 ∨ K i = 1 ∨ K i = 2 ∨ K i = 3 ∨ K i = 4) with e | e | e | e | e
    · have h := n_X6_ask l w nd K O T L n lim x v t r bs wd i u hi e hw hlb hlw hx hL hcm hv hb0 hb1
      rw [e]; exact h
    · have ho := (hw i hi).2.2.1 (by omega)
      have h := n_X5_ask l w nd K O T L n lim x v t r bs wd i u hi e hw hlb hlw (ih _ ho (by omega)) hb0 hb1
      rw [e]; exact h
    · have ho := (hw i hi).2.2.1 (by omega)
      have ht := (hw i hi).2.2.2 (by omega)
      have h := n_X10_ask l w nd K O T L n lim x v t r bs wd i u hi e hw hlb hlw (ih _ ho (by omega)) (ih _ ht (by omega)) hb0 hb1
      rw [e]; exact h
    · have ho := (hw i hi).2.2.1 (by omega)
      have ht := (hw i hi).2.2.2 (by omega)
      have h := n_X8_ask l w nd K O T L n lim x v t r bs wd i u hi e hw hlb hlw (ih _ ho (by omega)) (ih _ ht (by omega)) hb0 hb1
      rw [e]; exact h
    · have ho := (hw i hi).2.2.1 (by omega)
      have ht := (hw i hi).2.2.2 (by omega)
      have h := n_X9_ask l w nd K O T L n lim x v t r bs wd i u hi e hw hlb hlw (ih _ ho (by omega)) (ih _ ht (by omega)) hb0 hb1
      rw [e]; exact h
def tellY (k : Nat) : MethodName := if k = 0 then yX6_tell else if k = 1 then yX5_tell else if k = 2 then yX10_tell else if k = 3 then yX8_tell else yX9_tell
def tellC (k : Nat) : ByteArray := if k = 0 then cX6_tell else if k = 1 then cX5_tell else if k = 2 then cX10_tell else if k = 3 then cX8_tell else cX9_tell
abbrev ET (K O T : Nat → Nat) (x i : Nat) : Bool := evT K O T x (i + 1) i
/-- telling of part i of a tree -/
def TellC (l : Launch) (w : Wd) (nd K O T L : Nat → Nat) (n lim x i : Nat) : Prop :=
  Ctr (GX w) l (tellY (K i)) (tellC (K i)) 2 (some .boolean) (rm_askN i) [.ref (nd i), .int (nI x)] (fun H => TP w nd K O T L n lim H) (fun _ vR _ => vR = some (.int (nI (Bool.toNat (ET K O T x i))))) (fun _ => False)
theorem et_le {K O T : Nat → Nat} {N c x i : Nat} (hw : wfP K O T N c) {j : Nat} (hi : i < N) (hj : j < i) : evT K O T x i j = ET K O T x j := evT_more hw (by omega) hj
theorem et_0 {K O T : Nat → Nat} {x i : Nat} (e : K i = 0) : ET K O T x i = Nat.testBit x (O i) := by show evT _ _ _ _ _ _ = _; rw [evT, if_pos e]
theorem et_1 {K O T : Nat → Nat} {N c x i : Nat} (hw : wfP K O T N c) (hi : i < N) (e : K i = 1) : ET K O T x i = !(ET K O T x (O i)) := by
  have ho := (hw i hi).2.2.1 (by omega)
  show evT _ _ _ _ _ _ = _
  rw [evT, if_neg (by omega), if_pos e, et_le hw hi ho]
theorem et_2 {K O T : Nat → Nat} {N c x i : Nat} (hw : wfP K O T N c) (hi : i < N) (e : 2 ≤ K i) : ET K O T x i = if K i = 2 then (ET K O T x (O i) && ET K O T x (T i)) else if K i = 3 then (ET K O T x (O i) || ET K O T x (T i)) else !decide (ET K O T x (O i) = ET K O T x (T i)) := by
  have ho := (hw i hi).2.2.1 (by omega)
  have ht := (hw i hi).2.2.2 e
  show evT _ _ _ _ _ _ = _
  rw [evT, if_neg (by omega), if_neg (by omega), et_le hw hi ho, et_le hw hi ht]
section XTELL
variable {p : Program} {l : Launch} {e : Env} {R : Room} {s : State} {m : MethodId} {a : Array Value} {below : List Frame} {meth : Method} {c : Code} {H : Heap} {locs : List Loc} {cells slots : Nat} {Q : State → Prop}
variable {cc : ByteArray} {pc nL : Nat} {ls : Array Slot} {rest : List Value} {own : String} {w : Wd} {A : Nat → Prop}
theorem x_tell (S : CallFix p m c cc nL s a lw_all own) {nd K O T L : Nat → Nat} {n lim x j index : Nat} (hM : TellC l w nd K O T L n lim x j) (hk : K j ≤ 4) (hj : j < n) (hG : GX w s) (hlk : Cond.methodLink own index ⟨"ConditionWise$Node","tell","(I)Z"⟩ ∈ lw_all) (hT : TP w nd K O T L n lim H) (hR : (rm_askN j).frames + 1 ≤ R.frames ∧ 8 + (2 + 11) + (rm_askN j).locals ≤ R.locals) (hA0 : ∀ q, A q → w.b0 ≤ q) (hls : ls.size = nL) (hcat : (rest.map fun v => v.category).sum ≤ 8) (hdg : decode cc pc = .ok (.invokeinterface index 2, 5)) (hf : cells ≤ R.cells ∧ slots ≤ R.slots) (hS : Sx A s H locs)
    (kk : ∀ (H1 : Heap) (locs1 : List Loc), H.size ≤ H1.size → (∀ q : Nat, q < H.size → ¬ False → H1[q]? = H[q]?) → Sx A s H1 locs1 → W p l e R s m a below meth c H1 locs1 cells slots Q (F0 m (pc + 5) ls (.int (nI (Bool.toNat (ET K O T x j))) :: rest))) : W p l e R s m a below meth c H locs cells slots Q (F0 m pc ls (.int (nI x) :: .ref (nd j) :: rest)) := by
  have hK := hG.kn
  rcases (by omega : K j = 0 ∨ K j = 1 ∨ K j = 2 ∨ K j = 3 ∨ K j = 4) with e | e | e | e | e
  · have hat := hT.at hj (ndE_0 e)
    unfold TellC at hM
    rw [e] at hM
    refine r_callF S (x := ⟨"ConditionWise$Node","tell","(I)Z"⟩) (C := "ConditionWise$Letter") (y := yX6_tell) hM (hK.1 8 _ rfl).2 (hG.fw _ (List.mem_of_getElem? (i := 5) rfl)) (lw_F hlk q1726 q1728 q86 q1730) ⟨by decide +kernel, by decide +kernel, by show _ = some 1; decide +kernel⟩ hR (r_recv hat hK (q := (RX6, TX6, 2)) rfl) (GX.blind w) (hG.at hS hA0) hT hls (rest := rest) rfl hcat hdg hf hS (fun _ h => h.elim) fun vR H1 locs1 hp hz hk hS1 => ?_
    subst hp
    exact kk H1 locs1 hz hk hS1
  · have hat := hT.at hj (ndE_1 e)
    unfold TellC at hM
    rw [e] at hM
    refine r_callF S (x := ⟨"ConditionWise$Node","tell","(I)Z"⟩) (C := "ConditionWise$Not") (y := yX5_tell) hM (hK.1 9 _ rfl).2 (hG.fw _ (List.mem_of_getElem? (i := 6) rfl)) (lw_F hlk q1731 q1733 q81 q1735) ⟨by decide +kernel, by decide +kernel, by show _ = some 1; decide +kernel⟩ hR (r_recv hat hK (q := (RX5, TX5, 1)) rfl) (GX.blind w) (hG.at hS hA0) hT hls (rest := rest) rfl hcat hdg hf hS (fun _ h => h.elim) fun vR H1 locs1 hp hz hk hS1 => ?_
    subst hp
    exact kk H1 locs1 hz hk hS1
  · have hat := hT.at hj (ndE_2 e (by decide))
    unfold TellC at hM
    rw [e] at hM
    refine r_callF S (x := ⟨"ConditionWise$Node","tell","(I)Z"⟩) (C := "ConditionWise$And") (y := yX10_tell) hM (hK.1 10 _ rfl).2 (hG.fw _ (List.mem_of_getElem? (i := 7) rfl)) (lw_F hlk q1719 q1721 q92 q1723) ⟨by decide +kernel, by decide +kernel, by show _ = some 1; decide +kernel⟩ hR (r_recv hat hK (q := (RX10, TX10, 2)) rfl) (GX.blind w) (hG.at hS hA0) hT hls (rest := rest) rfl hcat hdg hf hS (fun _ h => h.elim) fun vR H1 locs1 hp hz hk hS1 => ?_
    subst hp
    exact kk H1 locs1 hz hk hS1
  · have hat := hT.at hj (ndE_2 e (by decide))
    unfold TellC at hM
    rw [e] at hM
    refine r_callF S (x := ⟨"ConditionWise$Node","tell","(I)Z"⟩) (C := "ConditionWise$Or") (y := yX8_tell) hM (hK.1 11 _ rfl).2 (hG.fw _ (List.mem_of_getElem? (i := 8) rfl)) (lw_F hlk q1738 q1740 q90 q1742) ⟨by decide +kernel, by decide +kernel, by show _ = some 1; decide +kernel⟩ hR (r_recv hat hK (q := (RX8, TX8, 2)) rfl) (GX.blind w) (hG.at hS hA0) hT hls (rest := rest) rfl hcat hdg hf hS (fun _ h => h.elim) fun vR H1 locs1 hp hz hk hS1 => ?_
    subst hp
    exact kk H1 locs1 hz hk hS1
  · have hat := hT.at hj (ndE_2 e (by decide))
    unfold TellC at hM
    rw [e] at hM
    refine r_callF S (x := ⟨"ConditionWise$Node","tell","(I)Z"⟩) (C := "ConditionWise$Unlike") (y := yX9_tell) hM (hK.1 12 _ rfl).2 (hG.fw _ (List.mem_of_getElem? (i := 9) rfl)) (lw_F hlk q1745 q1747 q91 q1749) ⟨by decide +kernel, by decide +kernel, by show _ = some 1; decide +kernel⟩ hR (r_recv hat hK (q := (RX9, TX9, 2)) rfl) (GX.blind w) (hG.at hS hA0) hT hls (rest := rest) rfl hcat hdg hf hS (fun _ h => h.elim) fun vR H1 locs1 hp hz hk hS1 => ?_
    subst hp
    exact kk H1 locs1 hz hk hS1
end XTELL
