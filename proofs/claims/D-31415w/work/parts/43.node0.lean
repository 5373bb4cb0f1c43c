set_option maxRecDepth 100000
theorem lw_F {own : String} {idx : Nat} {C : String} {x y : MethodName} {b : ByteArray} {L : Nat} {r : Option FieldType} (h1 : Cond.methodLink own idx x ∈ lw_all) (h2 : Cond.selects C x y ∈ lw_all) (h3 : Cond.instanceMethod y ∈ lw_all) (h4 : Cond.initialized y.cls ∈ lw_all) (h5 : Cond.code y b L r ∈ lw_all) : GoodIn lw_all (va_wsF own idx C x y (ws_ y b L r)) := by
  refine lw_app ?_ (lw_meth h5)
  intro w hw
  simp only [List.mem_cons, List.not_mem_nil, or_false] at hw
  rcases hw with e | e | e | e
  · rw [e]; exact h1
  · rw [e]; exact h2
  · rw [e]; exact h3
  · rw [e]; exact h4
/-! trees: a node's cell, by the reference's part -/
def ndE (nd K O T L : Nat → Nat) (i : Nat) : va_E := if K i = 0 then .inr (8, [.int (nI (O i)), .int (nI (L (O i)))]) else if K i = 1 then .inr (9, [.ref (nd (O i))]) else .inr (K i + 8, [.ref (nd (O i)), .ref (nd (T i))])
def TP (w : Wd) (nd K O T L : Nat → Nat) (n lim : Nat) (H : Heap) : Prop := ∀ i, i < n → nd i < lim ∧ va_at w.D clA (nd i, ndE nd K O T L i) H
theorem TP.mono {w : Wd} {nd K O T L : Nat → Nat} {n lim : Nat} {H H1 : Heap} (h : TP w nd K O T L n lim H) (hq : ∀ q, q < lim → q < H.size → H1[q]? = H[q]?) : TP w nd K O T L n lim H1 := fun i hi => ⟨(h i hi).1, (h i hi).2.kept (hq _ (h i hi).1 (h i hi).2.lt)⟩
theorem TP.at {w : Wd} {nd K O T L : Nat → Nat} {n lim : Nat} {H : Heap} (h : TP w nd K O T L n lim H) {i : Nat} (hi : i < n) {e : va_E} (he : ndE nd K O T L i = e) : va_at w.D clA (nd i, e) H := by rw [← he]; exact (h i hi).2
theorem ndE_0 {nd K O T L : Nat → Nat} {i : Nat} (e : K i = 0) : ndE nd K O T L i = .inr (8, [.int (nI (O i)), .int (nI (L (O i)))]) := by unfold ndE; rw [if_pos e]
theorem ndE_1 {nd K O T L : Nat → Nat} {i : Nat} (e : K i = 1) : ndE nd K O T L i = .inr (9, [.ref (nd (O i))]) := by unfold ndE; rw [if_neg (by omega), if_pos e]
theorem ndE_2 {nd K O T L : Nat → Nat} {i k : Nat} (e : K i = k) (h : 2 ≤ k) : ndE nd K O T L i = .inr (k + 8, [.ref (nd (O i)), .ref (nd (T i))]) := by unfold ndE; rw [if_neg (by omega), if_neg (by omega), e]
def askY (k : Nat) : MethodName := if k = 0 then yX6_ask else if k = 1 then yX5_ask else if k = 2 then yX10_ask else if k = 3 then yX8_ask else yX9_ask
def askC (k : Nat) : ByteArray := if k = 0 then cX6_ask else if k = 1 then cX5_ask else if k = 2 then cX10_ask else if k = 3 then cX8_ask else cX9_ask
abbrev rm_askN (i : Nat) : Room := { frames := i + 10, cells := 0, slots := 0, locals := i * 40 + 200 }
abbrev EV (K O T : Nat → Nat) (x i : Nat) : Bool × Nat := evA K O T x (i + 1) i
/-- asking part i of a tree -/
def AskC (l : Launch) (w : Wd) (nd K O T L : Nat → Nat) (n lim x v : Nat) (t : Int32) (r bs wd i : Nat) : Prop :=
  ∀ u : Nat, Ctr (GX w) l (askY (K i)) (askC (K i)) 2 (some .boolean) (rm_askN i) [.ref (nd i), .ref r] (fun H => TP w nd K O T L n lim H ∧ runP w r bs wd v t u H) (fun _ vR H1 => vR = some (.int (nI (Bool.toNat (EV K O T x i).1))) ∧ runP w r bs wd v t (u ||| (EV K O T x i).2) H1) (fun q => q = bs ∨ q = wd)
theorem ev_le {K O T : Nat → Nat} {N c x i : Nat} (hw : wfP K O T N c) {j : Nat} (hi : i < N) (hj : j < i) : evA K O T x i j = EV K O T x j := evA_more hw (j + 1) j (by omega) (by omega) i hj
theorem ev_0 {K O T : Nat → Nat} {x i : Nat} (e : K i = 0) : EV K O T x i = (Nat.testBit x (O i), 1 <<< O i) := by show evA _ _ _ _ _ _ = _; rw [evA, if_pos e]
theorem ev_1 {K O T : Nat → Nat} {N c x i : Nat} (hw : wfP K O T N c) (hi : i < N) (e : K i = 1) : EV K O T x i = (!(EV K O T x (O i)).1, (EV K O T x (O i)).2) := by
  have ho := (hw i hi).2.2.1 (by omega)
  show evA _ _ _ _ _ _ = _
  rw [evA, if_neg (by omega)]
  simp only [ev_le hw hi ho]
  rw [if_pos e]
theorem ev_2 {K O T : Nat → Nat} {N c x i : Nat} (hw : wfP K O T N c) (hi : i < N) (e : 2 ≤ K i) : EV K O T x i = if (K i = 2 ∧ (EV K O T x (O i)).1 = false) ∨ (K i = 3 ∧ (EV K O T x (O i)).1 = true) then EV K O T x (O i) else (if K i = 4 then !decide ((EV K O T x (O i)).1 = (EV K O T x (T i)).1) else (EV K O T x (T i)).1, (EV K O T x (O i)).2 ||| (EV K O T x (T i)).2) := by
  have ho := (hw i hi).2.2.1 (by omega)
  have ht := (hw i hi).2.2.2 e
  show evA _ _ _ _ _ _ = _
  rw [evA, if_neg (by omega)]
  simp only [ev_le hw hi ho, ev_le hw hi ht]
  rw [if_neg (by omega)]
section XASK
variable {p : Program} {l : Launch} {e : Env} {R : Room} {s : State} {m : MethodId} {a : Array Value} {below : List Frame} {meth : Method} {c : Code} {H : Heap} {locs : List Loc} {cells slots : Nat} {Q : State → Prop}
variable {cc : ByteArray} {pc nL : Nat} {ls : Array Slot} {rest : List Value} {own : String} {w : Wd} {A : Nat → Prop}
theorem x_ask (S : CallFix p m c cc nL s a lw_all own) {nd K O T L : Nat → Nat} {n lim x v : Nat} {t : Int32} {r bs wd j index : Nat} (hM : AskC l w nd K O T L n lim x v t r bs wd j) {u : Nat} (hk : K j ≤ 4) (hj : j < n) (hG : GX w s) (hlk : Cond.methodLink own index ⟨"ConditionWise$Node","ask","(LConditionWise$Run;)Z"⟩ ∈ lw_all) (hT : TP w nd K O T L n lim H) (hu : runP w r bs wd v t u H) (hR : (rm_askN j).frames + 1 ≤ R.frames ∧ 8 + (2 + 11) + (rm_askN j).locals ≤ R.locals) (hA0 : ∀ q, A q → w.b0 ≤ q) (hls : ls.size = nL) (hcat : (rest.map fun v => v.category).sum ≤ 8) (hdg : decode cc pc = .ok (.invokeinterface index 2, 5)) (hf : cells ≤ R.cells ∧ slots ≤ R.slots) (hS : Sx A s H locs) (hA : ∀ q, q = bs ∨ q = wd → A q ∨ s.heap.size ≤ q)
    (kk : ∀ (H1 : Heap) (locs1 : List Loc), runP w r bs wd v t (u ||| (EV K O T x j).2) H1 → H.size ≤ H1.size → (∀ q : Nat, q < H.size → ¬ (q = bs ∨ q = wd) → H1[q]? = H[q]?) → Sx A s H1 locs1 → W p l e R s m a below meth c H1 locs1 cells slots Q (F0 m (pc + 5) ls (.int (nI (Bool.toNat (EV K O T x j).1)) :: rest))) : W p l e R s m a below meth c H locs cells slots Q (F0 m pc ls (.ref r :: .ref (nd j) :: rest)) := by
  have hK := hG.kn
  have hM := hM u
  rcases (by omega : K j = 0 ∨ K j = 1 ∨ K j = 2 ∨ K j = 3 ∨ K j = 4) with e | e | e | e | e
  · have hat := hT.at hj (ndE_0 e)
    rw [e] at hM
    refine r_callF S (x := ⟨"ConditionWise$Node","ask","(LConditionWise$Run;)Z"⟩) (C := "ConditionWise$Letter") (y := yX6_ask) hM (hK.1 8 _ rfl).2 (hG.fw _ (List.mem_of_getElem? (i := 0) rfl)) (lw_F hlk q1342 q1344 q86 q1346) ⟨by decide +kernel, by decide +kernel, by show _ = some 1; decide +kernel⟩ hR (r_recv hat hK (q := (RX6, TX6, 2)) rfl) (GX.blind w) (hG.at hS hA0) ⟨hT, hu⟩ hls (rest := rest) rfl hcat hdg hf hS hA fun vR H1 locs1 hp hz hk hS1 => ?_
    obtain ⟨rfl, hu1⟩ := hp
    exact kk H1 locs1 hu1 hz hk hS1
  · have hat := hT.at hj (ndE_1 e)
    rw [e] at hM
    refine r_callF S (x := ⟨"ConditionWise$Node","ask","(LConditionWise$Run;)Z"⟩) (C := "ConditionWise$Not") (y := yX5_ask) hM (hK.1 9 _ rfl).2 (hG.fw _ (List.mem_of_getElem? (i := 1) rfl)) (lw_F hlk q1386 q1388 q81 q1390) ⟨by decide +kernel, by decide +kernel, by show _ = some 1; decide +kernel⟩ hR (r_recv hat hK (q := (RX5, TX5, 1)) rfl) (GX.blind w) (hG.at hS hA0) ⟨hT, hu⟩ hls (rest := rest) rfl hcat hdg hf hS hA fun vR H1 locs1 hp hz hk hS1 => ?_
    obtain ⟨rfl, hu1⟩ := hp
    exact kk H1 locs1 hu1 hz hk hS1
  · have hat := hT.at hj (ndE_2 e (by decide))
    rw [e] at hM
    refine r_callF S (x := ⟨"ConditionWise$Node","ask","(LConditionWise$Run;)Z"⟩) (C := "ConditionWise$And") (y := yX10_ask) hM (hK.1 10 _ rfl).2 (hG.fw _ (List.mem_of_getElem? (i := 2) rfl)) (lw_F hlk q1335 q1337 q92 q1339) ⟨by decide +kernel, by decide +kernel, by show _ = some 1; decide +kernel⟩ hR (r_recv hat hK (q := (RX10, TX10, 2)) rfl) (GX.blind w) (hG.at hS hA0) ⟨hT, hu⟩ hls (rest := rest) rfl hcat hdg hf hS hA fun vR H1 locs1 hp hz hk hS1 => ?_
    obtain ⟨rfl, hu1⟩ := hp
    exact kk H1 locs1 hu1 hz hk hS1
  · have hat := hT.at hj (ndE_2 e (by decide))
    rw [e] at hM
    refine r_callF S (x := ⟨"ConditionWise$Node","ask","(LConditionWise$Run;)Z"⟩) (C := "ConditionWise$Or") (y := yX8_ask) hM (hK.1 11 _ rfl).2 (hG.fw _ (List.mem_of_getElem? (i := 3) rfl)) (lw_F hlk q1393 q1395 q90 q1397) ⟨by decide +kernel, by decide +kernel, by show _ = some 1; decide +kernel⟩ hR (r_recv hat hK (q := (RX8, TX8, 2)) rfl) (GX.blind w) (hG.at hS hA0) ⟨hT, hu⟩ hls (rest := rest) rfl hcat hdg hf hS hA fun vR H1 locs1 hp hz hk hS1 => ?_
    obtain ⟨rfl, hu1⟩ := hp
    exact kk H1 locs1 hu1 hz hk hS1
  · have hat := hT.at hj (ndE_2 e (by decide))
    rw [e] at hM
    refine r_callF S (x := ⟨"ConditionWise$Node","ask","(LConditionWise$Run;)Z"⟩) (C := "ConditionWise$Unlike") (y := yX9_ask) hM (hK.1 12 _ rfl).2 (hG.fw _ (List.mem_of_getElem? (i := 4) rfl)) (lw_F hlk q1400 q1402 q91 q1404) ⟨by decide +kernel, by decide +kernel, by show _ = some 1; decide +kernel⟩ hR (r_recv hat hK (q := (RX9, TX9, 2)) rfl) (GX.blind w) (hG.at hS hA0) ⟨hT, hu⟩ hls (rest := rest) rfl hcat hdg hf hS hA fun vR H1 locs1 hp hz hk hS1 => ?_
    obtain ⟨rfl, hu1⟩ := hp
    exact kk H1 locs1 hu1 hz hk hS1
end XASK
