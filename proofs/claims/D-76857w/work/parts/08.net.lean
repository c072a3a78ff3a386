/-! nets, their queue, their set of towns, places: walked by program -/
set_option maxRecDepth 100000
/-- the net's record at base b: 0..9, 16 arrays by field, 10 places, 11 queue, 17 priced, 18 its words, 19 the queue's array, 20 the net, 21..28 the places -/
def netF (b : Nat) : List (Nat × Nat) := [(2, b + 0), (2, b + 1), (2, b + 2), (2, b + 3), (2, b + 4), (2, b + 5), (2, b + 6), (2, b + 7), (2, b + 8), (2, b + 9), (2, b + 10), (2, b + 11), (0, 0), (0, 0), (0, 0), (1, 0), (2, b + 16), (2, b + 17)]
def pqF (b : Nat) : List (Nat × Nat) := [(2, b + 19), (0, 0), (3, 0), (0, 0)]
def bsF (o : Nat) : List (Nat × Nat) := [(2, o + 1), (0, 0), (0, 0)]
def plF : List (Nat × Nat) := [(0, 0), (1, 0), (1, 0), (0, 0), (0, 0), (0, 0)]
def netD (b k : Nat) : Option rw_C := match k with
  | 0 => some (.inl (0, 25))
  | 1 => some (.inl (0, 25))
  | 2 => some (.inl (0, 25))
  | 3 => some (.inl (0, 25))
  | 4 => some (.inl (1, 25))
  | 5 => some (.inl (0, 25))
  | 6 => some (.inl (0, 8))
  | 7 => some (.inl (0, 8))
  | 8 => some (.inl (1, 8))
  | 9 => some (.inl (1, 8))
  | 10 => some (.inl (5, 8))
  | 11 => some (.inr (13, pqF b))
  | 16 => some (.inl (1, 8))
  | 17 => some (.inr (14, bsF (b + 17)))
  | 18 => some (.inl (1, 1))
  | 19 => some (.inl (4, 9))
  | 20 => some (.inr (1, netF b))
  | k + 21 => if k < 8 then some (.inr (2, plF)) else none
  | _ => none
/-- the net with base b lies in the record D -/
def NB (D : rw_D) (b : Nat) : Prop := ∀ (k : Nat) (q : rw_C), netD b k = some q → D (b + k) = some q
theorem dn {D : rw_D} {b : Nat} (hb : NB D b) (k : Nat) {q : rw_C} (h : netD b k = some q) : D (b + k) = some q := hb k q h
theorem netD_pl (b : Nat) {j : Nat} (hj : j < 8) : netD b (j + 21) = some (.inr (2, plF)) := by
  show (if j < 8 then some (Sum.inr (2, plF)) else none) = _
  rw [if_pos hj]
theorem dpl {D : rw_D} {b : Nat} (hb : NB D b) {o : Nat} (ho : b + 21 ≤ o ∧ o < b + 21 + 8) : D o = some (.inr (2, plF)) := by
  have h := dn hb (o - b - 21 + 21) (netD_pl b (by omega))
  rw [show b + (o - b - 21 + 21) = o by omega] at h
  exact h
def BSo (D : rw_D) (o : Nat) : Prop := D o = some (.inr (14, bsF o)) ∧ D (o + 1) = some (.inl (1, 1))
theorem bsN {D : rw_D} {b : Nat} (hb : NB D b) : BSo D (b + 17) := ⟨dn hb 17 rfl, dn hb 18 rfl⟩
theorem netD_lt {b k : Nat} {q : rw_C} (h : netD b k = some q) : k < 29 := by
  match k with
  | 0 | 1 | 2 | 3 | 4 | 5 | 6 | 7 | 8 | 9 | 10 | 11 | 12 | 13 | 14 | 15 | 16 | 17 | 18 | 19 | 20 => omega
  | k + 21 =>
    simp only [netD] at h
    by_cases g : k < 8
    · omega
    · rw [if_neg g] at h; cases h
/-- the net alone -/
def dN (b : Nat) : rw_D := fun c => if b ≤ c then netD b (c - b) else none
theorem nbN (b : Nat) : NB (dN b) b := fun k q h => by rw [dN, if_pos (Nat.le_add_right b k), Nat.add_sub_cancel_left]; exact h
/-- a BitSet alone -/
def dB (o : Nat) : rw_D := fun c => if c = o then some (.inr (14, bsF o)) else if c = o + 1 then some (.inl (1, 1)) else none
theorem bsB (o : Nat) : BSo (dB o) o := ⟨by simp [dB], by simp [dB]⟩
def f_J55_equals (o : Nat) (M0 : RM) (a1 : Nat) : Option Int :=
  if ¬ o = a1 then (some 0) else (some 1)
theorem hd_J55_equals : yJ55_equals.cls = RJ55 ∧ yJ55_equals.cls ≠ "java/lang/invoke/MethodHandle" ∧ yJ55_equals.cls ≠ "java/lang/invoke/VarHandle" ∧ (parseMethodDescriptor yJ55_equals.desc).map (fun d => d.parameters.length) = some 1 := by decide +kernel
theorem wb_J55_equals {D : rw_D} {p : Program} {l : Launch} {e : Env} {s : State} {m : MethodId} {args : Array Value} {below : List Frame} {meth : Method} {c : Code} {G : GG} {ad : Nat → Nat} {hp0 : HP} {M0 : RM} {o : Nat} (ho : D o = some (.inr (2, plF))) (X : CX p s m args meth c cJ55_equals 2 RJ55 (some .boolean) G) {a1 : Nat} (ha1 : D a1 = some (.inr (2, plF))) {out : Int} (hE : f_J55_equals o M0 a1 = some out) {H : Heap} {locs : List Loc} {ls : Array Slot} (hM : RW G D ad hp0 M0 H locs) (hl : lv_has ls 2 [(0, .ref (ad o)), (1, .ref (ad a1))]) : W p l e (rmD 0) s m args below meth c H locs 0 0 (QR below G D ad hp0 args s (some (vI out)) M0) (F0 m 0 ls []) := by
  unfold f_J55_equals at hE
  refine e_aload_n X hl 0 rfl dJ55_equals_0 rfl ?_
  refine e_aload_n X hl 1 rfl dJ55_equals_1 rfl ?_
  refine r_acmp_ne X hM ho ha1 hE dJ55_equals_2 rfl (fun hE => ?_) (fun hE => ?_)
  · refine e_iconst X dJ55_equals_9 ?_
    cases hE
    exact r_zret (x := 0) X hM rfl dJ55_equals_10
  · refine e_iconst X dJ55_equals_5 ?_
    refine e_goto X dJ55_equals_6 rfl ?_
    cases hE
    exact r_zret (x := 1) X hM rfl dJ55_equals_10
theorem met_J55_equals (l : Launch) (G : GG) (ad : Nat → Nat) (hp0 : HP) {D : rw_D} (o : Nat) (ho : D o = some (.inr (2, plF))) (M0 : RM) (a1 : Nat) (ha1 : D a1 = some (.inr (2, plF))) {out : Int} (hE : f_J55_equals o M0 a1 = some out) : MR l yJ55_equals (ws_ yJ55_equals cJ55_equals 2 (some .boolean)) 0 G D ad hp0 [.ref (ad o), .ref (ad a1)] M0 (some (vI out)) M0 :=
  MR.ofF (by decide +kernel) (Nat.le_of_ble_eq_true rfl) rfl (fun p e s m below meth c ls X hM hl => wb_J55_equals ho X ha1 hE hM hl)
def f_X2_compareTo_2 (o : Nat) (M0 : RM) (a1 : Nat) : Option Int :=
  if w64 (M0 o 1) = w64 (M0 a1 1) then (if ¬ w64 (M0 o 2) = w64 (M0 a1 2) then (if w64 (M0 a1 2) ≤ w64 (M0 o 2) then (some 1) else (some (-1))) else (some ((M0 o 0) - (M0 a1 0)))) else (if w64 (M0 a1 1) ≤ w64 (M0 o 1) then (some 1) else (some (-1)))
theorem hd_X2_compareTo_2 : yX2_compareTo_2.cls = RX2 ∧ yX2_compareTo_2.cls ≠ "java/lang/invoke/MethodHandle" ∧ yX2_compareTo_2.cls ≠ "java/lang/invoke/VarHandle" ∧ (parseMethodDescriptor yX2_compareTo_2.desc).map (fun d => d.parameters.length) = some 1 := by decide +kernel
theorem wb_X2_compareTo_2 {D : rw_D} {p : Program} {l : Launch} {e : Env} {s : State} {m : MethodId} {args : Array Value} {below : List Frame} {meth : Method} {c : Code} {G : GG} {ad : Nat → Nat} {hp0 : HP} {M0 : RM} {o : Nat} (ho : D o = some (.inr (2, plF))) (X : CX p s m args meth c cX2_compareTo_2 2 RX2 (some .int) G) {a1 : Nat} (ha1 : D a1 = some (.inr (2, plF))) {out : Int} (hE : f_X2_compareTo_2 o M0 a1 = some out) {H : Heap} {locs : List Loc} {ls : Array Slot} (hM : RW G D ad hp0 M0 H locs) (hl : lv_has ls 2 [(0, .ref (ad o)), (1, .ref (ad a1))]) : W p l e (rmD 0) s m args below meth c H locs 0 0 (QR below G D ad hp0 args s (some (vI out)) M0) (F0 m 0 ls []) := by
  unfold f_X2_compareTo_2 at hE
  refine e_aload_n X hl 0 rfl dX2_compareTo_2_0 rfl ?_
  refine r_getJ X hM ck_X2 o 1 ho rfl (by decide) q642 rfl dX2_compareTo_2_1 ?_
  refine e_aload_n X hl 1 rfl dX2_compareTo_2_4 rfl ?_
  refine r_getJ X hM ck_X2 a1 1 ha1 rfl (by decide) q642 rfl dX2_compareTo_2_5 ?_
  refine e_lcmp_eq X (w64 (M0 o 1)) (w64 (M0 a1 1)) rfl rfl hE dX2_compareTo_2_8 dX2_compareTo_2_9 rfl (fun hE => ?_) (fun hE => ?_)
  · refine e_aload_n X hl 0 rfl dX2_compareTo_2_30 rfl ?_
    refine r_getJ X hM ck_X2 o 2 ho rfl (by decide) q644 rfl dX2_compareTo_2_31 ?_
    refine e_aload_n X hl 1 rfl dX2_compareTo_2_34 rfl ?_
    refine r_getJ X hM ck_X2 a1 2 ha1 rfl (by decide) q644 rfl dX2_compareTo_2_35 ?_
    refine e_lcmp_ne X (w64 (M0 o 2)) (w64 (M0 a1 2)) rfl rfl hE dX2_compareTo_2_38 dX2_compareTo_2_39 rfl (fun hE => ?_) (fun hE => ?_)
    · refine e_aload_n X hl 0 rfl dX2_compareTo_2_54 rfl ?_
      refine r_getJ X hM ck_X2 o 2 ho rfl (by decide) q644 rfl dX2_compareTo_2_55 ?_
      refine e_aload_n X hl 1 rfl dX2_compareTo_2_58 rfl ?_
      refine r_getJ X hM ck_X2 a1 2 ha1 rfl (by decide) q644 rfl dX2_compareTo_2_59 ?_
      refine e_lcmp_ge X (w64 (M0 o 2)) (w64 (M0 a1 2)) rfl rfl hE dX2_compareTo_2_62 dX2_compareTo_2_63 rfl (fun hE => ?_) (fun hE => ?_)
      · refine e_iconst X dX2_compareTo_2_70 ?_
        cases hE
        exact r_zret (x := 1) X hM rfl dX2_compareTo_2_71
      · refine e_iconst X dX2_compareTo_2_66 ?_
        refine e_goto X dX2_compareTo_2_67 rfl ?_
        cases hE
        exact r_zret (x := (-1)) X hM rfl dX2_compareTo_2_71
    · refine e_aload_n X hl 0 rfl dX2_compareTo_2_42 rfl ?_
      refine r_getI X hM ck_X2 o 0 ho rfl (by decide) q640 rfl dX2_compareTo_2_43 ?_
      refine e_aload_n X hl 1 rfl dX2_compareTo_2_46 rfl ?_
      refine r_getI X hM ck_X2 a1 0 ha1 rfl (by decide) q640 rfl dX2_compareTo_2_47 ?_
      refine e_isub X dX2_compareTo_2_50 ?_
      refine e_goto X dX2_compareTo_2_51 rfl ?_
      cases hE
      exact r_zret X hM rfl dX2_compareTo_2_71
  · refine e_aload_n X hl 0 rfl dX2_compareTo_2_12 rfl ?_
    refine r_getJ X hM ck_X2 o 1 ho rfl (by decide) q642 rfl dX2_compareTo_2_13 ?_
    refine e_aload_n X hl 1 rfl dX2_compareTo_2_16 rfl ?_
    refine r_getJ X hM ck_X2 a1 1 ha1 rfl (by decide) q642 rfl dX2_compareTo_2_17 ?_
    refine e_lcmp_ge X (w64 (M0 o 1)) (w64 (M0 a1 1)) rfl rfl hE dX2_compareTo_2_20 dX2_compareTo_2_21 rfl (fun hE => ?_) (fun hE => ?_)
    · refine e_iconst X dX2_compareTo_2_28 ?_
      cases hE
      exact r_zret (x := 1) X hM rfl dX2_compareTo_2_29
    · refine e_iconst X dX2_compareTo_2_24 ?_
      refine e_goto X dX2_compareTo_2_25 rfl ?_
      cases hE
      exact r_zret (x := (-1)) X hM rfl dX2_compareTo_2_29
theorem met_X2_compareTo_2 (l : Launch) (G : GG) (ad : Nat → Nat) (hp0 : HP) {D : rw_D} (o : Nat) (ho : D o = some (.inr (2, plF))) (M0 : RM) (a1 : Nat) (ha1 : D a1 = some (.inr (2, plF))) {out : Int} (hE : f_X2_compareTo_2 o M0 a1 = some out) : MR l yX2_compareTo_2 (ws_ yX2_compareTo_2 cX2_compareTo_2 2 (some .int)) 0 G D ad hp0 [.ref (ad o), .ref (ad a1)] M0 (some (vI out)) M0 :=
  MR.of (by decide +kernel) (Nat.le_of_ble_eq_true rfl) rfl (fun p e s m below meth c ls X hM hl => wb_X2_compareTo_2 ho X ha1 hE hM hl)
def f_X2_compareTo (o : Nat) (M0 : RM) (a1 : Nat) : Option Int :=
  ob (f_X2_compareTo_2 o M0 a1) fun v1 => some v1
theorem hd_X2_compareTo : yX2_compareTo.cls = RX2 ∧ yX2_compareTo.cls ≠ "java/lang/invoke/MethodHandle" ∧ yX2_compareTo.cls ≠ "java/lang/invoke/VarHandle" ∧ (parseMethodDescriptor yX2_compareTo.desc).map (fun d => d.parameters.length) = some 1 := by decide +kernel
theorem wb_X2_compareTo {D : rw_D} {p : Program} {l : Launch} {e : Env} {s : State} {m : MethodId} {args : Array Value} {below : List Frame} {meth : Method} {c : Code} {G : GG} {ad : Nat → Nat} {hp0 : HP} {M0 : RM} {o : Nat} (ho : D o = some (.inr (2, plF))) (X : CX p s m args meth c cX2_compareTo 2 RX2 (some .int) G) {a1 : Nat} (ha1 : D a1 = some (.inr (2, plF))) {out : Int} (hE : f_X2_compareTo o M0 a1 = some out) {H : Heap} {locs : List Loc} {ls : Array Slot} (hM : RW G D ad hp0 M0 H locs) (hl : lv_has ls 2 [(0, .ref (ad o)), (1, .ref (ad a1))]) : W p l e (rmD 1) s m args below meth c H locs 0 0 (QR below G D ad hp0 args s (some (vI out)) M0) (F0 m 0 ls []) := by
  unfold f_X2_compareTo at hE
  refine e_aload_n X hl 0 rfl dX2_compareTo_0 rfl ?_
  refine e_aload_n X hl 1 rfl dX2_compareTo_1 rfl ?_
  refine r_castS X hM ck_X2 ha1 q1672 dX2_compareTo_2 ?_
  obtain ⟨v1, h, hE⟩ := ob_some hE
  refine r_callV1 X hM o ho ck_X2 (rest := []) (met_X2_compareTo_2 l G ad hp0 o ho M0 a1 ha1 h) (cwV 1 X.ht (lw_V q1673 q1674 q1675 q152 q1676) rfl rfl rfl hd_X2_compareTo_2 (cxR (by decide) (by decide))) rfl hl.1 rfl (Nat.le_of_ble_eq_true rfl) dX2_compareTo_5 ⟨Nat.le_refl _, Nat.le_refl _⟩ (fun H locs hM => ?_)
  cases hE
  exact r_zret X hM rfl dX2_compareTo_8
theorem met_X2_compareTo (l : Launch) (G : GG) (ad : Nat → Nat) (hp0 : HP) {D : rw_D} (o : Nat) (ho : D o = some (.inr (2, plF))) (M0 : RM) (a1 : Nat) (ha1 : D a1 = some (.inr (2, plF))) {out : Int} (hE : f_X2_compareTo o M0 a1 = some out) : MR l yX2_compareTo (ws_ yX2_compareTo cX2_compareTo 2 (some .int)) 1 G D ad hp0 [.ref (ad o), .ref (ad a1)] M0 (some (vI out)) M0 :=
  MR.of (by decide +kernel) (Nat.le_of_ble_eq_true rfl) rfl (fun p e s m below meth c ls X hM hl => wb_X2_compareTo ho X ha1 hE hM hl)
def f_X2_isNearer (o : Nat) (M0 : RM) (a1 : Int) (a2 : Int) : Option Int :=
  if w64 a1 < w64 (M0 o 1) then (some 1) else (if ¬ w64 a1 = w64 (M0 o 1) then (some 0) else (if w64 (M0 o 2) ≤ w64 a2 then (some 0) else (some 1)))
theorem hd_X2_isNearer : yX2_isNearer.cls = RX2 ∧ yX2_isNearer.cls ≠ "java/lang/invoke/MethodHandle" ∧ yX2_isNearer.cls ≠ "java/lang/invoke/VarHandle" ∧ (parseMethodDescriptor yX2_isNearer.desc).map (fun d => d.parameters.length) = some 2 := by decide +kernel
theorem wb_X2_isNearer {D : rw_D} {p : Program} {l : Launch} {e : Env} {s : State} {m : MethodId} {args : Array Value} {below : List Frame} {meth : Method} {c : Code} {G : GG} {ad : Nat → Nat} {hp0 : HP} {M0 : RM} {o : Nat} (ho : D o = some (.inr (2, plF))) (X : CX p s m args meth c cX2_isNearer 5 RX2 (some .boolean) G) {a1 : Int} {a2 : Int}  {out : Int} (hE : f_X2_isNearer o M0 a1 a2 = some out) {H : Heap} {locs : List Loc} {ls : Array Slot} (hM : RW G D ad hp0 M0 H locs) (hl : lv_has ls 5 [(0, .ref (ad o)), (1, vL a1), (3, vL a2)]) : W p l e (rmD 0) s m args below meth c H locs 0 0 (QR below G D ad hp0 args s (some (vI out)) M0) (F0 m 0 ls []) := by
  unfold f_X2_isNearer at hE
  refine e_lload_n X hl 1 rfl dX2_isNearer_0 rfl ?_
  refine e_aload_n X hl 0 rfl dX2_isNearer_1 rfl ?_
  refine r_getJ X hM ck_X2 o 1 ho rfl (by decide) q642 rfl dX2_isNearer_2 ?_
  refine e_lcmp_lt X (w64 a1) (w64 (M0 o 1)) rfl rfl hE dX2_isNearer_5 dX2_isNearer_6 rfl (fun hE => ?_) (fun hE => ?_)
  · refine e_iconst X dX2_isNearer_27 ?_
    refine e_goto X dX2_isNearer_28 rfl ?_
    cases hE
    exact r_zret (x := 1) X hM rfl dX2_isNearer_32
  · refine e_lload_n X hl 1 rfl dX2_isNearer_9 rfl ?_
    refine e_aload_n X hl 0 rfl dX2_isNearer_10 rfl ?_
    refine r_getJ X hM ck_X2 o 1 ho rfl (by decide) q642 rfl dX2_isNearer_11 ?_
    refine e_lcmp_ne X (w64 a1) (w64 (M0 o 1)) rfl rfl hE dX2_isNearer_14 dX2_isNearer_15 rfl (fun hE => ?_) (fun hE => ?_)
    · refine e_iconst X dX2_isNearer_31 ?_
      cases hE
      exact r_zret (x := 0) X hM rfl dX2_isNearer_32
    · refine e_lload_n X hl 2 rfl dX2_isNearer_18 rfl ?_
      refine e_aload_n X hl 0 rfl dX2_isNearer_19 rfl ?_
      refine r_getJ X hM ck_X2 o 2 ho rfl (by decide) q644 rfl dX2_isNearer_20 ?_
      refine e_lcmp_ge X (w64 a2) (w64 (M0 o 2)) rfl rfl hE dX2_isNearer_23 dX2_isNearer_24 rfl (fun hE => ?_) (fun hE => ?_)
      · refine e_iconst X dX2_isNearer_31 ?_
        cases hE
        exact r_zret (x := 0) X hM rfl dX2_isNearer_32
      · refine e_iconst X dX2_isNearer_27 ?_
        refine e_goto X dX2_isNearer_28 rfl ?_
        cases hE
        exact r_zret (x := 1) X hM rfl dX2_isNearer_32
theorem met_X2_isNearer (l : Launch) (G : GG) (ad : Nat → Nat) (hp0 : HP) {D : rw_D} (o : Nat) (ho : D o = some (.inr (2, plF))) (M0 : RM) (a1 : Int) (a2 : Int)  {out : Int} (hE : f_X2_isNearer o M0 a1 a2 = some out) : MR l yX2_isNearer (ws_ yX2_isNearer cX2_isNearer 5 (some .boolean)) 0 G D ad hp0 [.ref (ad o), vL a1, vL a2] M0 (some (vI out)) M0 :=
  MR.of (by decide +kernel) (Nat.le_of_ble_eq_true rfl) rfl (fun p e s m below meth c ls X hM hl => wb_X2_isNearer ho X hE hM hl)
def f_J5_size (b : Nat) (M0 : RM)  : Option Int :=
  some (M0 (b + 11) 1)
theorem hd_J5_size : yJ5_size.cls = RJ5 ∧ yJ5_size.cls ≠ "java/lang/invoke/MethodHandle" ∧ yJ5_size.cls ≠ "java/lang/invoke/VarHandle" ∧ (parseMethodDescriptor yJ5_size.desc).map (fun d => d.parameters.length) = some 0 := by decide +kernel
theorem wb_J5_size {D : rw_D} {p : Program} {l : Launch} {e : Env} {s : State} {m : MethodId} {args : Array Value} {below : List Frame} {meth : Method} {c : Code} {G : GG} {ad : Nat → Nat} {hp0 : HP} {M0 : RM} {b : Nat} (hb : NB D b) (X : CX p s m args meth c cJ5_size 1 RJ5 (some .int) G)  {out : Int} (hE : f_J5_size b M0 = some out) {H : Heap} {locs : List Loc} {ls : Array Slot} (hM : RW G D ad hp0 M0 H locs) (hl : lv_has ls 1 [(0, .ref (ad (b + 11)))]) : W p l e (rmD 0) s m args below meth c H locs 0 0 (QR below G D ad hp0 args s (some (vI out)) M0) (F0 m 0 ls []) := by
  unfold f_J5_size at hE
  refine e_aload_n X hl 0 rfl dJ5_size_0 rfl ?_
  refine r_getI X hM ck_J5 (b + 11) 1 (dn hb 11 rfl) rfl (by decide) q265 rfl dJ5_size_1 ?_
  cases hE
  exact r_zret X hM rfl dJ5_size_4
theorem met_J5_size (l : Launch) (G : GG) (ad : Nat → Nat) (hp0 : HP) {D : rw_D} (b : Nat) (hb : NB D b) (M0 : RM)   {out : Int} (hE : f_J5_size b M0 = some out) : MR l yJ5_size (ws_ yJ5_size cJ5_size 1 (some .int)) 0 G D ad hp0 [.ref (ad (b + 11))] M0 (some (vI out)) M0 :=
  MR.of (by decide +kernel) (Nat.le_of_ble_eq_true rfl) rfl (fun p e s m below meth c ls X hM hl => wb_J5_size hb X hE hM hl)
def f_J5_clear_L22 (b : Nat) (N : Nat) (b3 : Int) (k : RM → Int → Option RM) : Nat → RM → Int → Option RM
  | 0, _, _ => none
  | n + 1, M, x2 =>
    if w32 b3 ≤ w32 x2 then (k M x2) else (ob (sA 9 M (b + 19) x2 (-1)) fun M3 => jn (x2 + 1) fun v4 => f_J5_clear_L22 b N b3 k n M3 v4)
def f_J5_clear (b : Nat) (N : Nat) (M : RM)  : Option RM :=
  jn (up2 M (b + 11) 3 ((M (b + 11) 3) + 1)) fun M1 => jn (M1 (b + 11) 1) fun v2 => f_J5_clear_L22 b N v2 (fun (M5 : RM) (v6 : Int) => jn (up2 M5 (b + 11) 1 0) fun M7 => some M7) N M1 0
theorem hd_J5_clear : yJ5_clear.cls = RJ5 ∧ yJ5_clear.cls ≠ "java/lang/invoke/MethodHandle" ∧ yJ5_clear.cls ≠ "java/lang/invoke/VarHandle" ∧ (parseMethodDescriptor yJ5_clear.desc).map (fun d => d.parameters.length) = some 0 := by decide +kernel
theorem wl_J5_clear_22 {D : rw_D} {p : Program} {l : Launch} {e : Env} {s : State} {m : MethodId} {args : Array Value} {below : List Frame} {meth : Method} {c : Code} {G : GG} {ad : Nat → Nat} {hp0 : HP} {b : Nat} (hb : NB D b) (X : CX p s m args meth c cJ5_clear 4 RJ5 none G) {N : Nat} {b3 : Int} {k : RM → Int → Option RM} {out : RM} : ∀ (n : Nat) (M : RM) (x2 : Int) (H : Heap) (locs : List Loc) (ls : Array Slot) (hE : f_J5_clear_L22 b N b3 k n M x2 = some out) (hM : RW G D ad hp0 M H locs) (hl : lv_has ls 4 [(0, .ref (ad (b + 11))), (1, .ref (ad (b + 19))), (2, vI x2), (3, vI b3)]) (hk : ∀ (M : RM) (x2 : Int) (H : Heap) (locs : List Loc) (ls : Array Slot), RW G D ad hp0 M H locs → lv_has ls 4 [(0, .ref (ad (b + 11))), (1, .ref (ad (b + 19))), (2, vI x2), (3, vI b3)] → k M x2 = some out → W p l e (rmD 0) s m args below meth c H locs 0 0 (QR below G D ad hp0 args s none out) (F0 m 37 ls [])), W p l e (rmD 0) s m args below meth c H locs 0 0 (QR below G D ad hp0 args s none out) (F0 m 22 ls []) := by
  intro n
  induction n with
  | zero =>
    intro M x2 H locs ls hE hM hl hk
    unfold f_J5_clear_L22 at hE
    cases hE
  | succ n ih =>
    intro M x2 H locs ls hE hM hl hk
    unfold f_J5_clear_L22 at hE
    refine e_iload_n X hl 2 rfl dJ5_clear_22 rfl ?_
    refine e_iload_n X hl 3 rfl dJ5_clear_23 rfl ?_
    refine e_icmp_ge X (w32 x2) (w32 b3) rfl rfl hE dJ5_clear_24 rfl (fun hE => ?_) (fun hE => ?_)
    · exact hk M x2 _ _ _ hM (lv_sub hl [0, 1, 2, 3] rfl) hE
    · refine e_aload_n X hl 1 rfl dJ5_clear_27 rfl ?_
      refine e_iload_n X hl 2 rfl dJ5_clear_28 rfl ?_
      refine e_null (ad := ad) X dJ5_clear_29 ?_
      refine r_aastN X hM (b + 19) (dn hb 19 rfl) (fun _ => rfl) (fun _ => rfl) (Nat.le_of_ble_eq_true rfl) hE dJ5_clear_30 (fun M3 hE H locs hM => ?_)
      refine e_iinc X hl 2 hE (fun v4 => [(2, vI v4), (0, .ref (ad (b + 11))), (1, .ref (ad (b + 19))), (3, vI b3)]) rfl dJ5_clear_31 (by decide) (fun _ => rfl) (fun v4 hE ls hl => ?_)
      refine e_goto X dJ5_clear_34 rfl ?_
      exact ih M3 v4 _ _ _ hE hM (lv_sub hl [1, 2, 0, 3] rfl) hk
theorem wb_J5_clear {D : rw_D} {p : Program} {l : Launch} {e : Env} {s : State} {m : MethodId} {args : Array Value} {below : List Frame} {meth : Method} {c : Code} {G : GG} {ad : Nat → Nat} {hp0 : HP} {b : Nat} (hb : NB D b) (X : CX p s m args meth c cJ5_clear 4 RJ5 none G) {N : Nat} {M : RM}  {out : RM} (hE : f_J5_clear b N M = some out) {H : Heap} {locs : List Loc} {ls : Array Slot} (hM : RW G D ad hp0 M H locs) (hl : lv_has ls 4 [(0, .ref (ad (b + 11)))]) : W p l e (rmD 0) s m args below meth c H locs 0 0 (QR below G D ad hp0 args s none out) (F0 m 0 ls []) := by
  unfold f_J5_clear at hE
  refine e_aload_n X hl 0 rfl dJ5_clear_0 rfl ?_
  refine e_dup X dJ5_clear_1 rfl ?_
  refine r_getI X hM ck_J5 (b + 11) 3 (dn hb 11 rfl) rfl (by decide) q268 rfl dJ5_clear_2 ?_
  refine e_iconst X dJ5_clear_5 ?_
  refine e_iadd X dJ5_clear_6 ?_
  refine r_putI X hM ck_J5 (b + 11) 3 (dn hb 11 rfl) rfl (by decide) q268 rfl rfl hE rfl dJ5_clear_7 (fun M1 hE H locs hM => ?_)
  refine e_aload_n X hl 0 rfl dJ5_clear_10 rfl ?_
  refine r_getR X hM ck_J5 (b + 11) 0 (dn hb 11 rfl) rfl (by decide) q263 rfl dJ5_clear_11 ?_
  refine e_astore_n X hl [(1, .ref (ad (b + 19))), (0, .ref (ad (b + 11)))] dJ5_clear_14 rfl (by decide) rfl (fun ls hl => ?_)
  refine e_iconst X dJ5_clear_15 ?_
  refine e_istore_n X hl [(2, vI 0), (1, .ref (ad (b + 19))), (0, .ref (ad (b + 11)))] dJ5_clear_16 rfl (by decide) rfl (fun ls hl => ?_)
  refine e_aload_n X hl 2 rfl dJ5_clear_17 rfl ?_
  refine r_getI X hM ck_J5 (b + 11) 1 (dn hb 11 rfl) rfl (by decide) q265 rfl dJ5_clear_18 ?_
  refine e_top hE (fun v2 hE => ?_)
  refine e_istore_n X hl [(3, vI v2), (2, vI 0), (1, .ref (ad (b + 19))), (0, .ref (ad (b + 11)))] dJ5_clear_21 rfl (by decide) rfl (fun ls hl => ?_)
  refine wl_J5_clear_22 hb X _ M1 0 _ _ _ hE hM (lv_sub hl [3, 2, 1, 0] rfl) (fun M5 v6 H locs ls hM hl hE => ?_)
  refine e_aload_n X hl 0 rfl dJ5_clear_37 rfl ?_
  refine e_iconst X dJ5_clear_38 ?_
  refine r_putI X hM ck_J5 (b + 11) 1 (dn hb 11 rfl) rfl (by decide) q265 rfl rfl hE rfl dJ5_clear_39 (fun M7 hE H locs hM => ?_)
  cases hE
  exact r_vret X hM dJ5_clear_42
theorem met_J5_clear (l : Launch) (G : GG) (ad : Nat → Nat) (hp0 : HP) {D : rw_D} (b : Nat) (hb : NB D b) {N : Nat} (M : RM)   {out : RM} (hE : f_J5_clear b N M = some out) : MR l yJ5_clear (ws_ yJ5_clear cJ5_clear 4 none) 0 G D ad hp0 [.ref (ad (b + 11))] M none out :=
  MR.of (by decide +kernel) (Nat.le_of_ble_eq_true rfl) rfl (fun p e s m below meth c ls X hM hl => wb_J5_clear hb X hE hM hl)
def f_J5_siftDownComparable_L11 (b : Nat) (N : Nat) (b2 m2 : Nat) (b3 : Int) (b4 : Nat) (b5 : Int) (k : RM → Int → Option RM) : Nat → RM → Int → Option RM
  | 0, _, _ => none
  | n + 1, M, x0 =>
    if w32 b5 ≤ w32 x0 then (k M x0) else (jn ((iShl x0 1) + 1) fun v2 => ob (gA m2 M b2 v2) fun v3 => ob (dr (b + 21) 8 v3) fun o4 => jn (v2 + 1) fun v5 => jn (fun (v7 : Int) (o8 : Nat) => ob (f_X2_compareTo b4 M o8) fun v9 => if 0 < w32 v9 then (ob (sA m2 M b2 x0 (o8 : Nat)) fun M10 => f_J5_siftDownComparable_L11 b N b2 m2 b3 b4 b5 k n M10 v7) else (k M x0)) fun kj6 => if w32 b3 ≤ w32 v5 then (kj6 v2 o4) else (ob (gA m2 M b2 v5) fun v11 => ob (dr (b + 21) 8 v11) fun o12 => ob (f_X2_compareTo o4 M o12) fun v13 => if w32 v13 ≤ 0 then (kj6 v2 o4) else (ob (gA m2 M b2 v5) fun v14 => ob (dr (b + 21) 8 v14) fun o15 => kj6 v5 o15)))
def f_J5_siftDownComparable (b : Nat) (N : Nat) (M : RM) (a1 : Int) (a2 : Nat) (a3 n3 : Nat) (a4 : Int) : Option RM :=
  jn (iUshr a4 1) fun v1 => f_J5_siftDownComparable_L11 b N a3 n3 a4 a2 v1 (fun (M16 : RM) (v17 : Int) => ob (sA n3 M16 a3 v17 (a2 : Nat)) fun M18 => some M18) N M a1
theorem hd_J5_siftDownComparable : yJ5_siftDownComparable.cls ≠ "java/lang/invoke/MethodHandle" ∧ yJ5_siftDownComparable.cls ≠ "java/lang/invoke/VarHandle" ∧ (parseMethodDescriptor yJ5_siftDownComparable.desc).map (fun d => d.parameters.length) = some 4 := by decide +kernel
theorem wl_J5_siftDownComparable_11 {D : rw_D} {p : Program} {l : Launch} {e : Env} {s : State} {m : MethodId} {args : Array Value} {below : List Frame} {meth : Method} {c : Code} {G : GG} {ad : Nat → Nat} {hp0 : HP} {b : Nat} (hb : NB D b) (X : CX p s m args meth c cJ5_siftDownComparable 9 RJ5 none G) {N : Nat} {b2 m2 : Nat} {b3 : Int} {b4 : Nat} {b5 : Int} (hb2 : D b2 = some (.inl (4, m2))) (hm2 : m2 ≤ 100000000) (hb4 : D b4 = some (.inr (2, plF))) {k : RM → Int → Option RM} {out : RM} : ∀ (n : Nat) (M : RM) (x0 : Int) (H : Heap) (locs : List Loc) (ls : Array Slot) (hE : f_J5_siftDownComparable_L11 b N b2 m2 b3 b4 b5 k n M x0 = some out) (hM : RW G D ad hp0 M H locs) (hl : lv_has ls 9 [(0, vI x0), (2, .ref (ad b2)), (3, vI b3), (4, .ref (ad b4)), (5, vI b5)]) (hk : ∀ (M : RM) (x0 : Int) (H : Heap) (locs : List Loc) (ls : Array Slot), RW G D ad hp0 M H locs → lv_has ls 9 [(0, vI x0), (2, .ref (ad b2)), (3, vI b3), (4, .ref (ad b4)), (5, vI b5)] → k M x0 = some out → W p l e (rmD 2) s m args below meth c H locs 0 0 (QR below G D ad hp0 args s none out) (F0 m 94 ls [])), W p l e (rmD 2) s m args below meth c H locs 0 0 (QR below G D ad hp0 args s none out) (F0 m 11 ls []) := by
  intro n
  induction n with
  | zero =>
    intro M x0 H locs ls hE hM hl hk
    unfold f_J5_siftDownComparable_L11 at hE
    cases hE
  | succ n ih =>
    intro M x0 H locs ls hE hM hl hk
    unfold f_J5_siftDownComparable_L11 at hE
    refine e_iload_n X hl 0 rfl dJ5_siftDownComparable_11 rfl ?_
    refine e_iload X hl 4 rfl dJ5_siftDownComparable_12 ?_
    refine e_icmp_ge X (w32 x0) (w32 b5) rfl rfl hE dJ5_siftDownComparable_14 rfl (fun hE => ?_) (fun hE => ?_)
    · exact hk M x0 _ _ _ hM (lv_sub hl [0, 1, 2, 3, 4] rfl) hE
    · refine e_iload_n X hl 0 rfl dJ5_siftDownComparable_17 rfl ?_
      refine e_iconst X dJ5_siftDownComparable_18 ?_
      refine e_ishl X dJ5_siftDownComparable_19 ?_
      refine e_iconst X dJ5_siftDownComparable_20 ?_
      refine e_iadd X dJ5_siftDownComparable_21 ?_
      refine e_top hE (fun v2 hE => ?_)
      refine e_istore X hl [(6, vI v2), (0, vI x0), (2, .ref (ad b2)), (3, vI b3), (4, .ref (ad b4)), (5, vI b5)] dJ5_siftDownComparable_22 (by decide) rfl (fun ls hl => ?_)
      refine e_aload_n X hl 2 rfl dJ5_siftDownComparable_24 rfl ?_
      refine e_iload X hl 0 rfl dJ5_siftDownComparable_25 ?_
      refine r_aald X hM b2 hb2 (fun _ => rfl) (fun _ => rfl) hm2 hE dJ5_siftDownComparable_27 (fun v3 hE => ?_)
      refine e_deref hE (fun o4 ho4 hE => ?_)
      refine e_astore X hl [(7, .ref (ad o4)), (6, vI v2), (0, vI x0), (2, .ref (ad b2)), (3, vI b3), (4, .ref (ad b4)), (5, vI b5)] dJ5_siftDownComparable_28 (by decide) rfl (fun ls hl => ?_)
      refine e_iload X hl 1 rfl dJ5_siftDownComparable_30 ?_
      refine e_iconst X dJ5_siftDownComparable_32 ?_
      refine e_iadd X dJ5_siftDownComparable_33 ?_
      refine e_top hE (fun v5 hE => ?_)
      refine e_istore X hl [(8, vI v5), (7, .ref (ad o4)), (6, vI v2), (0, vI x0), (2, .ref (ad b2)), (3, vI b3), (4, .ref (ad b4)), (5, vI b5)] dJ5_siftDownComparable_34 (by decide) rfl (fun ls hl => ?_)
      refine e_iload X hl 0 rfl dJ5_siftDownComparable_36 ?_
      refine e_iload_n X hl 5 rfl dJ5_siftDownComparable_38 rfl ?_
      obtain ⟨kj6, hkj6, hE⟩ := jn_ex hE
      have hjkj6 : ∀ (v7 : Int) (o8 : Nat) (ho8 : (b + 21) ≤ o8 ∧ o8 < (b + 21) + 8) (H : Heap) (locs : List Loc) (ls : Array Slot), RW G D ad hp0 M H locs → lv_has ls 9 [(0, vI x0), (2, .ref (ad b2)), (3, vI b3), (4, .ref (ad b4)), (5, vI b5), (6, vI v7), (7, .ref (ad o8))] → kj6 v7 o8 = some out → W p l e (rmD 2) s m args below meth c H locs 0 0 (QR below G D ad hp0 args s none out) (F0 m 68 ls []) := by
        intro v7 o8 ho8 H locs ls hM hl hE
        subst hkj6
        refine e_aload X hl 3 rfl dJ5_siftDownComparable_68 ?_
        refine e_aload X hl 6 rfl dJ5_siftDownComparable_70 ?_
        obtain ⟨v9, h, hE⟩ := ob_some hE
        refine r_callF1 X hM b4 hb4 ck_X2 (rest := []) (met_X2_compareTo l G ad hp0 b4 hb4 M o8 (dpl hb ho8) h) (cw_F X 1 q1649 q1667 q1669 q152 q1671 (by decide +kernel) (by decide +kernel) (by decide) (by decide)) rfl hl.1 rfl (Nat.le_of_ble_eq_true rfl) dJ5_siftDownComparable_72 ⟨Nat.le_refl _, Nat.le_refl _⟩ (fun H locs hM => ?_)
        refine e_if_gt X (w32 v9) rfl hE dJ5_siftDownComparable_77 rfl (fun hE => ?_) (fun hE => ?_)
        · refine e_aload_n X hl 1 rfl dJ5_siftDownComparable_83 rfl ?_
          refine e_iload_n X hl 0 rfl dJ5_siftDownComparable_84 rfl ?_
          refine e_aload X hl 6 rfl dJ5_siftDownComparable_85 ?_
          refine r_aastC X hM b2 hb2 (fun _ => rfl) (fun _ => rfl) hm2 (dpl hb ho8) ck_X2 q3602 hE dJ5_siftDownComparable_87 (fun M10 hE H locs hM => ?_)
          refine e_iload X hl 5 rfl dJ5_siftDownComparable_88 ?_
          refine e_istore_n X hl [(0, vI v7), (2, .ref (ad b2)), (3, vI b3), (4, .ref (ad b4)), (5, vI b5), (6, vI v7), (7, .ref (ad o8))] dJ5_siftDownComparable_90 rfl (by decide) rfl (fun ls hl => ?_)
          refine e_goto X dJ5_siftDownComparable_91 rfl ?_
          exact ih M10 v7 _ _ _ hE hM (lv_sub hl [0, 1, 2, 3, 4] rfl) hk
        · refine e_goto X dJ5_siftDownComparable_80 rfl ?_
          exact hk M x0 _ _ _ hM (lv_sub hl [0, 1, 2, 3, 4] rfl) hE
      refine e_icmp_ge X (w32 v5) (w32 b3) rfl rfl hE dJ5_siftDownComparable_39 rfl (fun hE => ?_) (fun hE => ?_)
      · exact hjkj6 v2 o4 ho4 _ _ _ hM (lv_sub hl [3, 4, 5, 6, 7, 2, 1] rfl) hE
      · refine e_aload X hl 1 rfl dJ5_siftDownComparable_42 ?_
        refine r_castC X hM ck_X2 (dpl hb ho4) q1647 q1666 dJ5_siftDownComparable_44 ?_
        refine e_aload_n X hl 4 rfl dJ5_siftDownComparable_47 rfl ?_
        refine e_iload X hl 0 rfl dJ5_siftDownComparable_48 ?_
        refine r_aald X hM b2 hb2 (fun _ => rfl) (fun _ => rfl) hm2 hE dJ5_siftDownComparable_50 (fun v11 hE => ?_)
        refine e_deref hE (fun o12 ho12 hE => ?_)
        obtain ⟨v13, h, hE⟩ := ob_some hE
        refine r_callF1 X hM o4 (dpl hb ho4) ck_X2 (rest := []) (met_X2_compareTo l G ad hp0 o4 (dpl hb ho4) M o12 (dpl hb ho12) h) (cw_F X 1 q1649 q1667 q1669 q152 q1671 (by decide +kernel) (by decide +kernel) (by decide) (by decide)) rfl hl.1 rfl (Nat.le_of_ble_eq_true rfl) dJ5_siftDownComparable_51 ⟨Nat.le_refl _, Nat.le_refl _⟩ (fun H locs hM => ?_)
        refine e_if_le X (w32 v13) rfl hE dJ5_siftDownComparable_56 rfl (fun hE => ?_) (fun hE => ?_)
        · exact hjkj6 v2 o4 ho4 _ _ _ hM (lv_sub hl [3, 4, 5, 6, 7, 2, 1] rfl) hE
        · refine e_aload_n X hl 4 rfl dJ5_siftDownComparable_59 rfl ?_
          refine e_iload X hl 0 rfl dJ5_siftDownComparable_60 ?_
          refine e_dup X dJ5_siftDownComparable_62 rfl ?_
          refine e_istore X hl [(6, vI v5), (8, vI v5), (7, .ref (ad o4)), (0, vI x0), (2, .ref (ad b2)), (3, vI b3), (4, .ref (ad b4)), (5, vI b5)] dJ5_siftDownComparable_63 (by decide) rfl (fun ls hl => ?_)
          refine r_aald X hM b2 hb2 (fun _ => rfl) (fun _ => rfl) hm2 hE dJ5_siftDownComparable_65 (fun v14 hE => ?_)
          refine e_deref hE (fun o15 ho15 hE => ?_)
          refine e_astore X hl [(7, .ref (ad o15)), (6, vI v5), (8, vI v5), (0, vI x0), (2, .ref (ad b2)), (3, vI b3), (4, .ref (ad b4)), (5, vI b5)] dJ5_siftDownComparable_66 (by decide) rfl (fun ls hl => ?_)
          exact hjkj6 v5 o15 ho15 _ _ _ hM (lv_sub hl [3, 4, 5, 6, 7, 1, 0] rfl) hE
theorem wb_J5_siftDownComparable {D : rw_D} {p : Program} {l : Launch} {e : Env} {s : State} {m : MethodId} {args : Array Value} {below : List Frame} {meth : Method} {c : Code} {G : GG} {ad : Nat → Nat} {hp0 : HP} {b : Nat} (hb : NB D b) (X : CX p s m args meth c cJ5_siftDownComparable 9 RJ5 none G) {N : Nat} {M : RM} {a1 : Int} {a2 : Nat} {a3 n3 : Nat} {a4 : Int} (ha2 : D a2 = some (.inr (2, plF))) (ha3 : D a3 = some (.inl (4, n3))) (hn3 : n3 ≤ 100000000) {out : RM} (hE : f_J5_siftDownComparable b N M a1 a2 a3 n3 a4 = some out) {H : Heap} {locs : List Loc} {ls : Array Slot} (hM : RW G D ad hp0 M H locs) (hl : lv_has ls 9 [(0, vI a1), (1, .ref (ad a2)), (2, .ref (ad a3)), (3, vI a4)]) : W p l e (rmD 2) s m args below meth c H locs 0 0 (QR below G D ad hp0 args s none out) (F0 m 0 ls []) := by
  unfold f_J5_siftDownComparable at hE
  refine e_aload_n X hl 1 rfl dJ5_siftDownComparable_0 rfl ?_
  refine r_castC X hM ck_X2 ha2 q1647 q1666 dJ5_siftDownComparable_1 ?_
  refine e_astore X hl [(4, .ref (ad a2)), (0, vI a1), (1, .ref (ad a2)), (2, .ref (ad a3)), (3, vI a4)] dJ5_siftDownComparable_4 (by decide) rfl (fun ls hl => ?_)
  refine e_iload_n X hl 4 rfl dJ5_siftDownComparable_6 rfl ?_
  refine e_iconst X dJ5_siftDownComparable_7 ?_
  refine e_iushr X dJ5_siftDownComparable_8 ?_
  refine e_top hE (fun v1 hE => ?_)
  refine e_istore X hl [(5, vI v1), (4, .ref (ad a2)), (0, vI a1), (1, .ref (ad a2)), (2, .ref (ad a3)), (3, vI a4)] dJ5_siftDownComparable_9 (by decide) rfl (fun ls hl => ?_)
  refine wl_J5_siftDownComparable_11 hb X ha3 hn3 ha2 _ M a1 _ _ _ hE hM (lv_sub hl [2, 4, 5, 1, 0] rfl) (fun M16 v17 H locs ls hM hl hE => ?_)
  refine e_aload_n X hl 1 rfl dJ5_siftDownComparable_94 rfl ?_
  refine e_iload_n X hl 0 rfl dJ5_siftDownComparable_95 rfl ?_
  refine e_aload X hl 3 rfl dJ5_siftDownComparable_96 ?_
  refine r_aastC X hM a3 ha3 (fun _ => rfl) (fun _ => rfl) hn3 ha2 ck_X2 q3602 hE dJ5_siftDownComparable_98 (fun M18 hE H locs hM => ?_)
  cases hE
  exact r_vret X hM dJ5_siftDownComparable_99
theorem met_J5_siftDownComparable (l : Launch) (G : GG) (ad : Nat → Nat) (hp0 : HP) {D : rw_D} (b : Nat) (hb : NB D b) {N : Nat} (M : RM) (a1 : Int) (a2 : Nat) (a3 n3 : Nat) (a4 : Int) (ha2 : D a2 = some (.inr (2, plF))) (ha3 : D a3 = some (.inl (4, n3))) (hn3 : n3 ≤ 100000000) {out : RM} (hE : f_J5_siftDownComparable b N M a1 a2 a3 n3 a4 = some out) : MR l yJ5_siftDownComparable (ws_ yJ5_siftDownComparable cJ5_siftDownComparable 9 none) 2 G D ad hp0 [vI a1, .ref (ad a2), .ref (ad a3), vI a4] M none out :=
  MR.of (by decide +kernel) (Nat.le_of_ble_eq_true rfl) rfl (fun p e s m below meth c ls X hM hl => wb_J5_siftDownComparable hb X ha2 ha3 hn3 hE hM hl)
def f_J5_siftDown (b : Nat) (N : Nat) (M : RM) (a1 : Int) (a2 : Nat) : Option RM :=
  if (M (b + 11) 2) < 0 then (ob (f_J5_siftDownComparable b N M a1 a2 (b + 19) 9 (M (b + 11) 1)) fun M1 => some M1) else (none)
theorem hd_J5_siftDown : yJ5_siftDown.cls = RJ5 ∧ yJ5_siftDown.cls ≠ "java/lang/invoke/MethodHandle" ∧ yJ5_siftDown.cls ≠ "java/lang/invoke/VarHandle" ∧ (parseMethodDescriptor yJ5_siftDown.desc).map (fun d => d.parameters.length) = some 2 := by decide +kernel
theorem wb_J5_siftDown {D : rw_D} {p : Program} {l : Launch} {e : Env} {s : State} {m : MethodId} {args : Array Value} {below : List Frame} {meth : Method} {c : Code} {G : GG} {ad : Nat → Nat} {hp0 : HP} {b : Nat} (hb : NB D b) (X : CX p s m args meth c cJ5_siftDown 3 RJ5 none G) {N : Nat} {M : RM} {a1 : Int} {a2 : Nat} (ha2 : D a2 = some (.inr (2, plF))) {out : RM} (hE : f_J5_siftDown b N M a1 a2 = some out) {H : Heap} {locs : List Loc} {ls : Array Slot} (hM : RW G D ad hp0 M H locs) (hl : lv_has ls 3 [(0, .ref (ad (b + 11))), (1, vI a1), (2, .ref (ad a2))]) : W p l e (rmD 3) s m args below meth c H locs 0 0 (QR below G D ad hp0 args s none out) (F0 m 0 ls []) := by
  unfold f_J5_siftDown at hE
  refine e_aload_n X hl 0 rfl dJ5_siftDown_0 rfl ?_
  refine r_getC X hM ck_J5 (b + 11) 2 (dn hb 11 rfl) rfl (by decide) q266 rfl dJ5_siftDown_1 ?_
  refine e_ifnullR X hE dJ5_siftDown_4 rfl (fun hE => ?_) (fun hE => ?_)
  · refine e_iload_n X hl 1 rfl dJ5_siftDown_27 rfl ?_
    refine e_aload_n X hl 2 rfl dJ5_siftDown_28 rfl ?_
    refine e_aload_n X hl 0 rfl dJ5_siftDown_29 rfl ?_
    refine r_getR X hM ck_J5 (b + 11) 0 (dn hb 11 rfl) rfl (by decide) q263 rfl dJ5_siftDown_30 ?_
    refine e_aload_n X hl 0 rfl dJ5_siftDown_33 rfl ?_
    refine r_getI X hM ck_J5 (b + 11) 1 (dn hb 11 rfl) rfl (by decide) q265 rfl dJ5_siftDown_34 ?_
    obtain ⟨M1, h, hE⟩ := ob_some hE
    refine r_callS0 X hM (rest := []) (met_J5_siftDownComparable l G ad hp0 b hb M a1 a2 (b + 19) 9 (M (b + 11) 1) ha2 (dn hb 19 rfl) (Nat.le_of_ble_eq_true rfl) h) (va_cwS 4 X.ht (lw_S q1644 q1645 q134 q1646) rfl rfl rfl hd_J5_siftDownComparable (cxR (by decide) (by decide))) rfl hl.1 rfl (Nat.le_of_ble_eq_true rfl) dJ5_siftDown_37 ⟨Nat.le_refl _, Nat.le_refl _⟩ (fun H locs hM => ?_)
    cases hE
    exact r_vret X hM dJ5_siftDown_40
  · cases hE
theorem met_J5_siftDown (l : Launch) (G : GG) (ad : Nat → Nat) (hp0 : HP) {D : rw_D} (b : Nat) (hb : NB D b) {N : Nat} (M : RM) (a1 : Int) (a2 : Nat) (ha2 : D a2 = some (.inr (2, plF))) {out : RM} (hE : f_J5_siftDown b N M a1 a2 = some out) : MR l yJ5_siftDown (ws_ yJ5_siftDown cJ5_siftDown 3 none) 3 G D ad hp0 [.ref (ad (b + 11)), vI a1, .ref (ad a2)] M none out :=
  MR.of (by decide +kernel) (Nat.le_of_ble_eq_true rfl) rfl (fun p e s m below meth c ls X hM hl => wb_J5_siftDown hb X ha2 hE hM hl)
def f_J5_siftUpComparable_L5 (b : Nat) (N : Nat) (b2 m2 : Nat) (b3 : Nat) (k : RM → Int → Option RM) : Nat → RM → Int → Option RM
  | 0, _, _ => none
  | n + 1, M, x0 =>
    if w32 x0 ≤ 0 then (k M x0) else (jn (iUshr (x0 - 1) 1) fun v1 => ob (gA m2 M b2 v1) fun v2 => ob (dr (b + 21) 8 v2) fun o3 => ob (f_X2_compareTo b3 M o3) fun v4 => if w32 v4 < 0 then (ob (sA m2 M b2 x0 (o3 : Nat)) fun M5 => f_J5_siftUpComparable_L5 b N b2 m2 b3 k n M5 v1) else (k M x0))
def f_J5_siftUpComparable (b : Nat) (N : Nat) (M : RM) (a1 : Int) (a2 : Nat) (a3 n3 : Nat) : Option RM :=
  f_J5_siftUpComparable_L5 b N a3 n3 a2 (fun (M6 : RM) (v7 : Int) => ob (sA n3 M6 a3 v7 (a2 : Nat)) fun M8 => some M8) N M a1
theorem hd_J5_siftUpComparable : yJ5_siftUpComparable.cls ≠ "java/lang/invoke/MethodHandle" ∧ yJ5_siftUpComparable.cls ≠ "java/lang/invoke/VarHandle" ∧ (parseMethodDescriptor yJ5_siftUpComparable.desc).map (fun d => d.parameters.length) = some 3 := by decide +kernel
theorem wl_J5_siftUpComparable_5 {D : rw_D} {p : Program} {l : Launch} {e : Env} {s : State} {m : MethodId} {args : Array Value} {below : List Frame} {meth : Method} {c : Code} {G : GG} {ad : Nat → Nat} {hp0 : HP} {b : Nat} (hb : NB D b) (X : CX p s m args meth c cJ5_siftUpComparable 6 RJ5 none G) {N : Nat} {b2 m2 : Nat} {b3 : Nat} (hb2 : D b2 = some (.inl (4, m2))) (hm2 : m2 ≤ 100000000) (hb3 : D b3 = some (.inr (2, plF))) {k : RM → Int → Option RM} {out : RM} : ∀ (n : Nat) (M : RM) (x0 : Int) (H : Heap) (locs : List Loc) (ls : Array Slot) (hE : f_J5_siftUpComparable_L5 b N b2 m2 b3 k n M x0 = some out) (hM : RW G D ad hp0 M H locs) (hl : lv_has ls 6 [(0, vI x0), (2, .ref (ad b2)), (3, .ref (ad b3))]) (hk : ∀ (M : RM) (x0 : Int) (H : Heap) (locs : List Loc) (ls : Array Slot), RW G D ad hp0 M H locs → lv_has ls 6 [(0, vI x0), (2, .ref (ad b2)), (3, .ref (ad b3))] → k M x0 = some out → W p l e (rmD 2) s m args below meth c H locs 0 0 (QR below G D ad hp0 args s none out) (F0 m 47 ls [])), W p l e (rmD 2) s m args below meth c H locs 0 0 (QR below G D ad hp0 args s none out) (F0 m 5 ls []) := by
  intro n
  induction n with
  | zero =>
    intro M x0 H locs ls hE hM hl hk
    unfold f_J5_siftUpComparable_L5 at hE
    cases hE
  | succ n ih =>
    intro M x0 H locs ls hE hM hl hk
    unfold f_J5_siftUpComparable_L5 at hE
    refine e_iload_n X hl 0 rfl dJ5_siftUpComparable_5 rfl ?_
    refine e_if_le X (w32 x0) rfl hE dJ5_siftUpComparable_6 rfl (fun hE => ?_) (fun hE => ?_)
    · exact hk M x0 _ _ _ hM (lv_sub hl [0, 1, 2] rfl) hE
    · refine e_iload_n X hl 0 rfl dJ5_siftUpComparable_9 rfl ?_
      refine e_iconst X dJ5_siftUpComparable_10 ?_
      refine e_isub X dJ5_siftUpComparable_11 ?_
      refine e_iconst X dJ5_siftUpComparable_12 ?_
      refine e_iushr X dJ5_siftUpComparable_13 ?_
      refine e_top hE (fun v1 hE => ?_)
      refine e_istore X hl [(4, vI v1), (0, vI x0), (2, .ref (ad b2)), (3, .ref (ad b3))] dJ5_siftUpComparable_14 (by decide) rfl (fun ls hl => ?_)
      refine e_aload_n X hl 2 rfl dJ5_siftUpComparable_16 rfl ?_
      refine e_iload X hl 0 rfl dJ5_siftUpComparable_17 ?_
      refine r_aald X hM b2 hb2 (fun _ => rfl) (fun _ => rfl) hm2 hE dJ5_siftUpComparable_19 (fun v2 hE => ?_)
      refine e_deref hE (fun o3 ho3 hE => ?_)
      refine e_astore X hl [(5, .ref (ad o3)), (4, vI v1), (0, vI x0), (2, .ref (ad b2)), (3, .ref (ad b3))] dJ5_siftUpComparable_20 (by decide) rfl (fun ls hl => ?_)
      refine e_aload_n X hl 4 rfl dJ5_siftUpComparable_22 rfl ?_
      refine e_aload X hl 0 rfl dJ5_siftUpComparable_23 ?_
      obtain ⟨v4, h, hE⟩ := ob_some hE
      refine r_callF1 X hM b3 hb3 ck_X2 (rest := []) (met_X2_compareTo l G ad hp0 b3 hb3 M o3 (dpl hb ho3) h) (cw_F X 1 q1649 q1667 q1669 q152 q1671 (by decide +kernel) (by decide +kernel) (by decide) (by decide)) rfl hl.1 rfl (Nat.le_of_ble_eq_true rfl) dJ5_siftUpComparable_25 ⟨Nat.le_refl _, Nat.le_refl _⟩ (fun H locs hM => ?_)
      refine e_if_lt X (w32 v4) rfl hE dJ5_siftUpComparable_30 rfl (fun hE => ?_) (fun hE => ?_)
      · refine e_aload_n X hl 3 rfl dJ5_siftUpComparable_36 rfl ?_
        refine e_iload_n X hl 2 rfl dJ5_siftUpComparable_37 rfl ?_
        refine e_aload X hl 0 rfl dJ5_siftUpComparable_38 ?_
        refine r_aastC X hM b2 hb2 (fun _ => rfl) (fun _ => rfl) hm2 (dpl hb ho3) ck_X2 q3602 hE dJ5_siftUpComparable_40 (fun M5 hE H locs hM => ?_)
        refine e_iload X hl 1 rfl dJ5_siftUpComparable_41 ?_
        refine e_istore_n X hl [(0, vI v1), (5, .ref (ad o3)), (4, vI v1), (2, .ref (ad b2)), (3, .ref (ad b3))] dJ5_siftUpComparable_43 rfl (by decide) rfl (fun ls hl => ?_)
        refine e_goto X dJ5_siftUpComparable_44 rfl ?_
        exact ih M5 v1 _ _ _ hE hM (lv_sub hl [0, 3, 4] rfl) hk
      · refine e_goto X dJ5_siftUpComparable_33 rfl ?_
        exact hk M x0 _ _ _ hM (lv_sub hl [2, 3, 4] rfl) hE
theorem wb_J5_siftUpComparable {D : rw_D} {p : Program} {l : Launch} {e : Env} {s : State} {m : MethodId} {args : Array Value} {below : List Frame} {meth : Method} {c : Code} {G : GG} {ad : Nat → Nat} {hp0 : HP} {b : Nat} (hb : NB D b) (X : CX p s m args meth c cJ5_siftUpComparable 6 RJ5 none G) {N : Nat} {M : RM} {a1 : Int} {a2 : Nat} {a3 n3 : Nat} (ha2 : D a2 = some (.inr (2, plF))) (ha3 : D a3 = some (.inl (4, n3))) (hn3 : n3 ≤ 100000000) {out : RM} (hE : f_J5_siftUpComparable b N M a1 a2 a3 n3 = some out) {H : Heap} {locs : List Loc} {ls : Array Slot} (hM : RW G D ad hp0 M H locs) (hl : lv_has ls 6 [(0, vI a1), (1, .ref (ad a2)), (2, .ref (ad a3))]) : W p l e (rmD 2) s m args below meth c H locs 0 0 (QR below G D ad hp0 args s none out) (F0 m 0 ls []) := by
  unfold f_J5_siftUpComparable at hE
  refine e_aload_n X hl 1 rfl dJ5_siftUpComparable_0 rfl ?_
  refine r_castC X hM ck_X2 ha2 q1647 q1666 dJ5_siftUpComparable_1 ?_
  refine e_astore_n X hl [(3, .ref (ad a2)), (0, vI a1), (1, .ref (ad a2)), (2, .ref (ad a3))] dJ5_siftUpComparable_4 rfl (by decide) rfl (fun ls hl => ?_)
  refine wl_J5_siftUpComparable_5 hb X ha3 hn3 ha2 _ M a1 _ _ _ hE hM (lv_sub hl [1, 3, 0] rfl) (fun M6 v7 H locs ls hM hl hE => ?_)
  refine e_aload_n X hl 1 rfl dJ5_siftUpComparable_47 rfl ?_
  refine e_iload_n X hl 0 rfl dJ5_siftUpComparable_48 rfl ?_
  refine e_aload_n X hl 2 rfl dJ5_siftUpComparable_49 rfl ?_
  refine r_aastC X hM a3 ha3 (fun _ => rfl) (fun _ => rfl) hn3 ha2 ck_X2 q3602 hE dJ5_siftUpComparable_50 (fun M8 hE H locs hM => ?_)
  cases hE
  exact r_vret X hM dJ5_siftUpComparable_51
theorem met_J5_siftUpComparable (l : Launch) (G : GG) (ad : Nat → Nat) (hp0 : HP) {D : rw_D} (b : Nat) (hb : NB D b) {N : Nat} (M : RM) (a1 : Int) (a2 : Nat) (a3 n3 : Nat) (ha2 : D a2 = some (.inr (2, plF))) (ha3 : D a3 = some (.inl (4, n3))) (hn3 : n3 ≤ 100000000) {out : RM} (hE : f_J5_siftUpComparable b N M a1 a2 a3 n3 = some out) : MR l yJ5_siftUpComparable (ws_ yJ5_siftUpComparable cJ5_siftUpComparable 6 none) 2 G D ad hp0 [vI a1, .ref (ad a2), .ref (ad a3)] M none out :=
  MR.of (by decide +kernel) (Nat.le_of_ble_eq_true rfl) rfl (fun p e s m below meth c ls X hM hl => wb_J5_siftUpComparable hb X ha2 ha3 hn3 hE hM hl)
def f_J5_siftUp (b : Nat) (N : Nat) (M : RM) (a1 : Int) (a2 : Nat) : Option RM :=
  if (M (b + 11) 2) < 0 then (ob (f_J5_siftUpComparable b N M a1 a2 (b + 19) 9) fun M1 => some M1) else (none)
theorem hd_J5_siftUp : yJ5_siftUp.cls = RJ5 ∧ yJ5_siftUp.cls ≠ "java/lang/invoke/MethodHandle" ∧ yJ5_siftUp.cls ≠ "java/lang/invoke/VarHandle" ∧ (parseMethodDescriptor yJ5_siftUp.desc).map (fun d => d.parameters.length) = some 2 := by decide +kernel
theorem wb_J5_siftUp {D : rw_D} {p : Program} {l : Launch} {e : Env} {s : State} {m : MethodId} {args : Array Value} {below : List Frame} {meth : Method} {c : Code} {G : GG} {ad : Nat → Nat} {hp0 : HP} {b : Nat} (hb : NB D b) (X : CX p s m args meth c cJ5_siftUp 3 RJ5 none G) {N : Nat} {M : RM} {a1 : Int} {a2 : Nat} (ha2 : D a2 = some (.inr (2, plF))) {out : RM} (hE : f_J5_siftUp b N M a1 a2 = some out) {H : Heap} {locs : List Loc} {ls : Array Slot} (hM : RW G D ad hp0 M H locs) (hl : lv_has ls 3 [(0, .ref (ad (b + 11))), (1, vI a1), (2, .ref (ad a2))]) : W p l e (rmD 3) s m args below meth c H locs 0 0 (QR below G D ad hp0 args s none out) (F0 m 0 ls []) := by
  unfold f_J5_siftUp at hE
  refine e_aload_n X hl 0 rfl dJ5_siftUp_0 rfl ?_
  refine r_getC X hM ck_J5 (b + 11) 2 (dn hb 11 rfl) rfl (by decide) q266 rfl dJ5_siftUp_1 ?_
  refine e_ifnullR X hE dJ5_siftUp_4 rfl (fun hE => ?_) (fun hE => ?_)
  · refine e_iload_n X hl 1 rfl dJ5_siftUp_23 rfl ?_
    refine e_aload_n X hl 2 rfl dJ5_siftUp_24 rfl ?_
    refine e_aload_n X hl 0 rfl dJ5_siftUp_25 rfl ?_
    refine r_getR X hM ck_J5 (b + 11) 0 (dn hb 11 rfl) rfl (by decide) q263 rfl dJ5_siftUp_26 ?_
    obtain ⟨M1, h, hE⟩ := ob_some hE
    refine r_callS0 X hM (rest := []) (met_J5_siftUpComparable l G ad hp0 b hb M a1 a2 (b + 19) 9 ha2 (dn hb 19 rfl) (Nat.le_of_ble_eq_true rfl) h) (va_cwS 3 X.ht (lw_S q1877 q1878 q134 q1879) rfl rfl rfl hd_J5_siftUpComparable (cxR (by decide) (by decide))) rfl hl.1 rfl (Nat.le_of_ble_eq_true rfl) dJ5_siftUp_29 ⟨Nat.le_refl _, Nat.le_refl _⟩ (fun H locs hM => ?_)
    cases hE
    exact r_vret X hM dJ5_siftUp_32
  · cases hE
theorem met_J5_siftUp (l : Launch) (G : GG) (ad : Nat → Nat) (hp0 : HP) {D : rw_D} (b : Nat) (hb : NB D b) {N : Nat} (M : RM) (a1 : Int) (a2 : Nat) (ha2 : D a2 = some (.inr (2, plF))) {out : RM} (hE : f_J5_siftUp b N M a1 a2 = some out) : MR l yJ5_siftUp (ws_ yJ5_siftUp cJ5_siftUp 3 none) 3 G D ad hp0 [.ref (ad (b + 11)), vI a1, .ref (ad a2)] M none out :=
  MR.of (by decide +kernel) (Nat.le_of_ble_eq_true rfl) rfl (fun p e s m below meth c ls X hM hl => wb_J5_siftUp hb X ha2 hE hM hl)
def f_J5_removeAt (b : Nat) (N : Nat) (M : RM) (a1 : Int) : Option (Int × RM) :=
  jn (up2 M (b + 11) 3 ((M (b + 11) 3) + 1)) fun M1 => jn (up2 M1 (b + 11) 1 ((M1 (b + 11) 1) - 1)) fun M2 => jn ((M1 (b + 11) 1) - 1) fun v3 => if ¬ w32 v3 = w32 a1 then (ob (gA 9 M2 (b + 19) v3) fun v4 => ob (dr (b + 21) 8 v4) fun o5 => ob (sA 9 M2 (b + 19) v3 (-1)) fun M6 => ob (f_J5_siftDown b N M6 a1 o5) fun M7 => ob (gA 9 M7 (b + 19) a1) fun v8 => ob (dr (b + 21) 8 v8) fun o9 => if ¬ o9 = o5 then (some ((-1), M7)) else (ob (f_J5_siftUp b N M7 a1 o5) fun M10 => ob (gA 9 M10 (b + 19) a1) fun v11 => ob (dr (b + 21) 8 v11) fun o12 => if o12 = o5 then (some ((-1), M10)) else (some ((o5 : Nat), M10)))) else (ob (sA 9 M2 (b + 19) a1 (-1)) fun M13 => some ((-1), M13))
theorem hd_J5_removeAt : yJ5_removeAt.cls = RJ5 ∧ yJ5_removeAt.cls ≠ "java/lang/invoke/MethodHandle" ∧ yJ5_removeAt.cls ≠ "java/lang/invoke/VarHandle" ∧ (parseMethodDescriptor yJ5_removeAt.desc).map (fun d => d.parameters.length) = some 1 := by decide +kernel
theorem wb_J5_removeAt {D : rw_D} {p : Program} {l : Launch} {e : Env} {s : State} {m : MethodId} {args : Array Value} {below : List Frame} {meth : Method} {c : Code} {G : GG} {ad : Nat → Nat} {hp0 : HP} {b : Nat} (hb : NB D b) (X : CX p s m args meth c cJ5_removeAt 5 RJ5 (some (.object "java/lang/Object")) G) {N : Nat} {M : RM} {a1 : Int}  {out : (Int × RM)} (hE : f_J5_removeAt b N M a1 = some out) {H : Heap} {locs : List Loc} {ls : Array Slot} (hM : RW G D ad hp0 M H locs) (hl : lv_has ls 5 [(0, .ref (ad (b + 11))), (1, vI a1)]) : W p l e (rmD 4) s m args below meth c H locs 0 0 (QR below G D ad hp0 args s (some (va_rf (rfo ad out.1))) out.2) (F0 m 0 ls []) := by
  unfold f_J5_removeAt at hE
  refine e_aload_n X hl 0 rfl dJ5_removeAt_0 rfl ?_
  refine r_getR X hM ck_J5 (b + 11) 0 (dn hb 11 rfl) rfl (by decide) q263 rfl dJ5_removeAt_1 ?_
  refine e_astore_n X hl [(2, .ref (ad (b + 19))), (0, .ref (ad (b + 11))), (1, vI a1)] dJ5_removeAt_4 rfl (by decide) rfl (fun ls hl => ?_)
  refine e_aload_n X hl 1 rfl dJ5_removeAt_5 rfl ?_
  refine e_dup X dJ5_removeAt_6 rfl ?_
  refine r_getI X hM ck_J5 (b + 11) 3 (dn hb 11 rfl) rfl (by decide) q268 rfl dJ5_removeAt_7 ?_
  refine e_iconst X dJ5_removeAt_10 ?_
  refine e_iadd X dJ5_removeAt_11 ?_
  refine r_putI X hM ck_J5 (b + 11) 3 (dn hb 11 rfl) rfl (by decide) q268 rfl rfl hE rfl dJ5_removeAt_12 (fun M1 hE H locs hM => ?_)
  refine e_aload_n X hl 1 rfl dJ5_removeAt_15 rfl ?_
  refine e_dup X dJ5_removeAt_16 rfl ?_
  refine r_getI X hM ck_J5 (b + 11) 1 (dn hb 11 rfl) rfl (by decide) q265 rfl dJ5_removeAt_17 ?_
  refine e_iconst X dJ5_removeAt_20 ?_
  refine e_isub X dJ5_removeAt_21 ?_
  refine e_dup_x1 X dJ5_removeAt_22 rfl rfl ?_
  refine r_putI X hM ck_J5 (b + 11) 1 (dn hb 11 rfl) rfl (by decide) q265 rfl rfl hE rfl dJ5_removeAt_23 (fun M2 hE H locs hM => ?_)
  refine e_top hE (fun v3 hE => ?_)
  refine e_istore_n X hl [(3, vI v3), (2, .ref (ad (b + 19))), (0, .ref (ad (b + 11))), (1, vI a1)] dJ5_removeAt_26 rfl (by decide) rfl (fun ls hl => ?_)
  refine e_iload_n X hl 0 rfl dJ5_removeAt_27 rfl ?_
  refine e_iload_n X hl 3 rfl dJ5_removeAt_28 rfl ?_
  refine e_icmp_ne X (w32 v3) (w32 a1) rfl rfl hE dJ5_removeAt_29 rfl (fun hE => ?_) (fun hE => ?_)
  · refine e_aload_n X hl 1 rfl dJ5_removeAt_39 rfl ?_
    refine e_iload_n X hl 0 rfl dJ5_removeAt_40 rfl ?_
    refine r_aald X hM (b + 19) (dn hb 19 rfl) (fun _ => rfl) (fun _ => rfl) (Nat.le_of_ble_eq_true rfl) hE dJ5_removeAt_41 (fun v4 hE => ?_)
    refine e_deref hE (fun o5 ho5 hE => ?_)
    refine e_astore X hl [(4, .ref (ad o5)), (3, vI v3), (2, .ref (ad (b + 19))), (0, .ref (ad (b + 11))), (1, vI a1)] dJ5_removeAt_42 (by decide) rfl (fun ls hl => ?_)
    refine e_aload_n X hl 2 rfl dJ5_removeAt_44 rfl ?_
    refine e_iload_n X hl 1 rfl dJ5_removeAt_45 rfl ?_
    refine e_null (ad := ad) X dJ5_removeAt_46 ?_
    refine r_aastN X hM (b + 19) (dn hb 19 rfl) (fun _ => rfl) (fun _ => rfl) (Nat.le_of_ble_eq_true rfl) hE dJ5_removeAt_47 (fun M6 hE H locs hM => ?_)
    refine e_aload_n X hl 3 rfl dJ5_removeAt_48 rfl ?_
    refine e_iload_n X hl 4 rfl dJ5_removeAt_49 rfl ?_
    refine e_aload X hl 0 rfl dJ5_removeAt_50 ?_
    obtain ⟨M7, h, hE⟩ := ob_some hE
    refine r_callV0 X hM (b + 11) (dn hb 11 rfl) ck_J5 (rest := []) (met_J5_siftDown l G ad hp0 b hb M6 a1 o5 (dpl hb ho5) h) (cwV 2 X.ht (lw_V q1608 q1610 qs23 q134 q1611) rfl rfl rfl hd_J5_siftDown (cxR (by decide) (by decide))) rfl hl.1 rfl (Nat.le_of_ble_eq_true rfl) dJ5_removeAt_52 ⟨Nat.le_refl _, Nat.le_refl _⟩ (fun H locs hM => ?_)
    refine e_aload_n X hl 2 rfl dJ5_removeAt_55 rfl ?_
    refine e_iload_n X hl 4 rfl dJ5_removeAt_56 rfl ?_
    refine r_aald X hM (b + 19) (dn hb 19 rfl) (fun _ => rfl) (fun _ => rfl) (Nat.le_of_ble_eq_true rfl) hE dJ5_removeAt_57 (fun v8 hE => ?_)
    refine e_deref hE (fun o9 ho9 hE => ?_)
    refine e_aload X hl 0 rfl dJ5_removeAt_58 ?_
    refine r_acmp_ne X hM (dpl hb ho9) (dpl hb ho5) hE dJ5_removeAt_60 rfl (fun hE => ?_) (fun hE => ?_)
    · refine e_null (ad := ad) X dJ5_removeAt_81 ?_
      cases hE
      exact r_rretR X hM (Or.inl ⟨_, rfl⟩) dJ5_removeAt_82
    · refine e_aload_n X hl 3 rfl dJ5_removeAt_63 rfl ?_
      refine e_iload_n X hl 4 rfl dJ5_removeAt_64 rfl ?_
      refine e_aload X hl 0 rfl dJ5_removeAt_65 ?_
      obtain ⟨M10, h, hE⟩ := ob_some hE
      refine r_callV0 X hM (b + 11) (dn hb 11 rfl) ck_J5 (rest := []) (met_J5_siftUp l G ad hp0 b hb M7 a1 o5 (dpl hb ho5) h) (cwV 2 X.ht (lw_V q1870 q1872 qs25 q134 q1873) rfl rfl rfl hd_J5_siftUp (cxR (by decide) (by decide))) rfl hl.1 rfl (Nat.le_of_ble_eq_true rfl) dJ5_removeAt_67 ⟨Nat.le_refl _, Nat.le_refl _⟩ (fun H locs hM => ?_)
      refine e_aload_n X hl 2 rfl dJ5_removeAt_70 rfl ?_
      refine e_iload_n X hl 4 rfl dJ5_removeAt_71 rfl ?_
      refine r_aald X hM (b + 19) (dn hb 19 rfl) (fun _ => rfl) (fun _ => rfl) (Nat.le_of_ble_eq_true rfl) hE dJ5_removeAt_72 (fun v11 hE => ?_)
      refine e_deref hE (fun o12 ho12 hE => ?_)
      refine e_aload X hl 0 rfl dJ5_removeAt_73 ?_
      refine r_acmp_eq X hM (dpl hb ho12) (dpl hb ho5) hE dJ5_removeAt_75 rfl (fun hE => ?_) (fun hE => ?_)
      · refine e_null (ad := ad) X dJ5_removeAt_81 ?_
        cases hE
        exact r_rretR X hM (Or.inl ⟨_, rfl⟩) dJ5_removeAt_82
      · refine e_aload X hl 0 rfl dJ5_removeAt_78 ?_
        cases hE
        exact r_rretC X hM (Or.inl ⟨_, rfl⟩) dJ5_removeAt_80
  · refine e_aload_n X hl 1 rfl dJ5_removeAt_32 rfl ?_
    refine e_iload_n X hl 3 rfl dJ5_removeAt_33 rfl ?_
    refine e_null (ad := ad) X dJ5_removeAt_34 ?_
    refine r_aastN X hM (b + 19) (dn hb 19 rfl) (fun _ => rfl) (fun _ => rfl) (Nat.le_of_ble_eq_true rfl) hE dJ5_removeAt_35 (fun M13 hE H locs hM => ?_)
    refine e_goto X dJ5_removeAt_36 rfl ?_
    refine e_null (ad := ad) X dJ5_removeAt_81 ?_
    cases hE
    exact r_rretR X hM (Or.inl ⟨_, rfl⟩) dJ5_removeAt_82
theorem met_J5_removeAt (l : Launch) (G : GG) (ad : Nat → Nat) (hp0 : HP) {D : rw_D} (b : Nat) (hb : NB D b) {N : Nat} (M : RM) (a1 : Int)  {out : (Int × RM)} (hE : f_J5_removeAt b N M a1 = some out) : MR l yJ5_removeAt (ws_ yJ5_removeAt cJ5_removeAt 5 (some (.object "java/lang/Object"))) 4 G D ad hp0 [.ref (ad (b + 11)), vI a1] M (some (va_rf (rfo ad out.1))) out.2 :=
  MR.of (by decide +kernel) (Nat.le_of_ble_eq_true rfl) rfl (fun p e s m below meth c ls X hM hl => wb_J5_removeAt hb X hE hM hl)
def f_J5_indexOf_L17 (b : Nat) (N : Nat) (M0 : RM) (b1 : Nat) (b4 : Int) (k : Int → Option Int) : Nat → Int → Option Int
  | 0, _ => none
  | n + 1, x3 =>
    if w32 b4 ≤ w32 x3 then (k x3) else (ob (gA 9 M0 (b + 19) x3) fun v2 => ob (dr (b + 21) 8 v2) fun o3 => ob (f_J55_equals b1 M0 o3) fun v4 => if w32 v4 = 0 then (jn (x3 + 1) fun v5 => f_J5_indexOf_L17 b N M0 b1 b4 k n v5) else (some x3))
def f_J5_indexOf (b : Nat) (N : Nat) (M0 : RM) (a1 : Nat) : Option Int :=
  jn (M0 (b + 11) 1) fun v1 => f_J5_indexOf_L17 b N M0 a1 v1 (fun (v6 : Int) => some (-1)) N 0
theorem hd_J5_indexOf : yJ5_indexOf.cls = RJ5 ∧ yJ5_indexOf.cls ≠ "java/lang/invoke/MethodHandle" ∧ yJ5_indexOf.cls ≠ "java/lang/invoke/VarHandle" ∧ (parseMethodDescriptor yJ5_indexOf.desc).map (fun d => d.parameters.length) = some 1 := by decide +kernel
theorem wl_J5_indexOf_17 {D : rw_D} {p : Program} {l : Launch} {e : Env} {s : State} {m : MethodId} {args : Array Value} {below : List Frame} {meth : Method} {c : Code} {G : GG} {ad : Nat → Nat} {hp0 : HP} {M0 : RM} {b : Nat} (hb : NB D b) (X : CX p s m args meth c cJ5_indexOf 5 RJ5 (some .int) G) {N : Nat} {b1 : Nat} {b4 : Int} (hb1 : D b1 = some (.inr (2, plF))) {k : Int → Option Int} {out : Int} : ∀ (n : Nat) (x3 : Int) (H : Heap) (locs : List Loc) (ls : Array Slot) (hE : f_J5_indexOf_L17 b N M0 b1 b4 k n x3 = some out) (hM : RW G D ad hp0 M0 H locs) (hl : lv_has ls 5 [(1, .ref (ad b1)), (2, .ref (ad (b + 19))), (3, vI x3), (4, vI b4)]) (hk : ∀ (x3 : Int) (H : Heap) (locs : List Loc) (ls : Array Slot), RW G D ad hp0 M0 H locs → lv_has ls 5 [(1, .ref (ad b1)), (2, .ref (ad (b + 19))), (3, vI x3), (4, vI b4)] → k x3 = some out → W p l e (rmD 1) s m args below meth c H locs 0 0 (QR below G D ad hp0 args s (some (vI out)) M0) (F0 m 41 ls [])), W p l e (rmD 1) s m args below meth c H locs 0 0 (QR below G D ad hp0 args s (some (vI out)) M0) (F0 m 17 ls []) := by
  intro n
  induction n with
  | zero =>
    intro x3 H locs ls hE hM hl hk
    unfold f_J5_indexOf_L17 at hE
    cases hE
  | succ n ih =>
    intro x3 H locs ls hE hM hl hk
    unfold f_J5_indexOf_L17 at hE
    refine e_iload_n X hl 2 rfl dJ5_indexOf_17 rfl ?_
    refine e_iload X hl 3 rfl dJ5_indexOf_18 ?_
    refine e_icmp_ge X (w32 x3) (w32 b4) rfl rfl hE dJ5_indexOf_20 rfl (fun hE => ?_) (fun hE => ?_)
    · exact hk x3 _ _ _ hM (lv_sub hl [0, 1, 2, 3] rfl) hE
    · refine e_aload_n X hl 0 rfl dJ5_indexOf_23 rfl ?_
      refine e_aload_n X hl 1 rfl dJ5_indexOf_24 rfl ?_
      refine e_iload_n X hl 2 rfl dJ5_indexOf_25 rfl ?_
      refine r_aald X hM (b + 19) (dn hb 19 rfl) (fun _ => rfl) (fun _ => rfl) (Nat.le_of_ble_eq_true rfl) hE dJ5_indexOf_26 (fun v2 hE => ?_)
      refine e_deref hE (fun o3 ho3 hE => ?_)
      obtain ⟨v4, h, hE⟩ := ob_some hE
      refine r_callU1 X hM b1 hb1 ck_X2 (rest := []) (met_J55_equals l G ad hp0 b1 hb1 M0 o3 (dpl hb ho3) h) (cw_U X 1 q2120 q2122 q2128 q2121 q3601 q2152 q2119 (by decide +kernel) (by decide) (by decide)) rfl hl.1 rfl (Nat.le_of_ble_eq_true rfl) dJ5_indexOf_27 ⟨Nat.le_refl _, Nat.le_refl _⟩ (fun H locs hM => ?_)
      refine e_if_eq X (w32 v4) rfl hE dJ5_indexOf_30 rfl (fun hE => ?_) (fun hE => ?_)
      · refine e_iinc X hl 2 hE (fun v5 => [(3, vI v5), (1, .ref (ad b1)), (2, .ref (ad (b + 19))), (4, vI b4)]) rfl dJ5_indexOf_35 (by decide) (fun _ => rfl) (fun v5 hE ls hl => ?_)
        refine e_goto X dJ5_indexOf_38 rfl ?_
        exact ih v5 _ _ _ hE hM (lv_sub hl [1, 2, 0, 3] rfl) hk
      · refine e_iload_n X hl 2 rfl dJ5_indexOf_33 rfl ?_
        cases hE
        exact r_zret X hM rfl dJ5_indexOf_34
theorem wb_J5_indexOf {D : rw_D} {p : Program} {l : Launch} {e : Env} {s : State} {m : MethodId} {args : Array Value} {below : List Frame} {meth : Method} {c : Code} {G : GG} {ad : Nat → Nat} {hp0 : HP} {M0 : RM} {b : Nat} (hb : NB D b) (X : CX p s m args meth c cJ5_indexOf 5 RJ5 (some .int) G) {N : Nat} {a1 : Nat} (ha1 : D a1 = some (.inr (2, plF))) {out : Int} (hE : f_J5_indexOf b N M0 a1 = some out) {H : Heap} {locs : List Loc} {ls : Array Slot} (hM : RW G D ad hp0 M0 H locs) (hl : lv_has ls 5 [(0, .ref (ad (b + 11))), (1, .ref (ad a1))]) : W p l e (rmD 1) s m args below meth c H locs 0 0 (QR below G D ad hp0 args s (some (vI out)) M0) (F0 m 0 ls []) := by
  unfold f_J5_indexOf at hE
  refine e_aload_n X hl 1 rfl dJ5_indexOf_0 rfl ?_
  refine e_ifnullC X dJ5_indexOf_1 ?_
  refine e_aload_n X hl 0 rfl dJ5_indexOf_4 rfl ?_
  refine r_getR X hM ck_J5 (b + 11) 0 (dn hb 11 rfl) rfl (by decide) q263 rfl dJ5_indexOf_5 ?_
  refine e_astore_n X hl [(2, .ref (ad (b + 19))), (0, .ref (ad (b + 11))), (1, .ref (ad a1))] dJ5_indexOf_8 rfl (by decide) rfl (fun ls hl => ?_)
  refine e_iconst X dJ5_indexOf_9 ?_
  refine e_istore_n X hl [(3, vI 0), (2, .ref (ad (b + 19))), (0, .ref (ad (b + 11))), (1, .ref (ad a1))] dJ5_indexOf_10 rfl (by decide) rfl (fun ls hl => ?_)
  refine e_aload_n X hl 2 rfl dJ5_indexOf_11 rfl ?_
  refine r_getI X hM ck_J5 (b + 11) 1 (dn hb 11 rfl) rfl (by decide) q265 rfl dJ5_indexOf_12 ?_
  refine e_top hE (fun v1 hE => ?_)
  refine e_istore X hl [(4, vI v1), (3, vI 0), (2, .ref (ad (b + 19))), (0, .ref (ad (b + 11))), (1, .ref (ad a1))] dJ5_indexOf_15 (by decide) rfl (fun ls hl => ?_)
  refine wl_J5_indexOf_17 hb X ha1 _ 0 _ _ _ hE hM (lv_sub hl [4, 2, 1, 0] rfl) (fun v6 H locs ls hM hl hE => ?_)
  refine e_iconst X dJ5_indexOf_41 ?_
  cases hE
  exact r_zret (x := (-1)) X hM rfl dJ5_indexOf_42
theorem met_J5_indexOf (l : Launch) (G : GG) (ad : Nat → Nat) (hp0 : HP) {D : rw_D} (b : Nat) (hb : NB D b) {N : Nat} (M0 : RM) (a1 : Nat) (ha1 : D a1 = some (.inr (2, plF))) {out : Int} (hE : f_J5_indexOf b N M0 a1 = some out) : MR l yJ5_indexOf (ws_ yJ5_indexOf cJ5_indexOf 5 (some .int)) 1 G D ad hp0 [.ref (ad (b + 11)), .ref (ad a1)] M0 (some (vI out)) M0 :=
  MR.of (by decide +kernel) (Nat.le_of_ble_eq_true rfl) rfl (fun p e s m below meth c ls X hM hl => wb_J5_indexOf hb X ha1 hE hM hl)
def f_J5_remove (b : Nat) (N : Nat) (M : RM) (a1 : Nat) : Option (Int × RM) :=
  ob (f_J5_indexOf b N M a1) fun v1 => if ¬ w32 v1 = (-1) then (ob2 (f_J5_removeAt b N M v1) fun v2 M3 => some (1, M3)) else (some (0, M))
theorem hd_J5_remove : yJ5_remove.cls = RJ5 ∧ yJ5_remove.cls ≠ "java/lang/invoke/MethodHandle" ∧ yJ5_remove.cls ≠ "java/lang/invoke/VarHandle" ∧ (parseMethodDescriptor yJ5_remove.desc).map (fun d => d.parameters.length) = some 1 := by decide +kernel
theorem wb_J5_remove {D : rw_D} {p : Program} {l : Launch} {e : Env} {s : State} {m : MethodId} {args : Array Value} {below : List Frame} {meth : Method} {c : Code} {G : GG} {ad : Nat → Nat} {hp0 : HP} {b : Nat} (hb : NB D b) (X : CX p s m args meth c cJ5_remove 3 RJ5 (some .boolean) G) {N : Nat} {M : RM} {a1 : Nat} (ha1 : D a1 = some (.inr (2, plF))) {out : (Int × RM)} (hE : f_J5_remove b N M a1 = some out) {H : Heap} {locs : List Loc} {ls : Array Slot} (hM : RW G D ad hp0 M H locs) (hl : lv_has ls 3 [(0, .ref (ad (b + 11))), (1, .ref (ad a1))]) : W p l e (rmD 5) s m args below meth c H locs 0 0 (QR below G D ad hp0 args s (some (vI out.1)) out.2) (F0 m 0 ls []) := by
  unfold f_J5_remove at hE
  refine e_aload_n X hl 0 rfl dJ5_remove_0 rfl ?_
  refine e_aload_n X hl 1 rfl dJ5_remove_1 rfl ?_
  obtain ⟨v1, h, hE⟩ := ob_some hE
  refine r_callV1 X hM (b + 11) (dn hb 11 rfl) ck_J5 (rest := []) (met_J5_indexOf l G ad hp0 b hb M a1 ha1 h) (cwV 1 X.ht (lw_V q2115 q2117 qs44 q134 q2118) rfl rfl rfl hd_J5_indexOf (cxR (by decide) (by decide))) rfl hl.1 rfl (Nat.le_of_ble_eq_true rfl) dJ5_remove_2 ⟨Nat.le_refl _, Nat.le_refl _⟩ (fun H locs hM => ?_)
  refine e_istore_n X hl [(2, vI v1), (0, .ref (ad (b + 11))), (1, .ref (ad a1))] dJ5_remove_5 rfl (by decide) rfl (fun ls hl => ?_)
  refine e_iload_n X hl 0 rfl dJ5_remove_6 rfl ?_
  refine e_iconst X dJ5_remove_7 ?_
  refine e_icmp_ne X (w32 v1) (-1) rfl (by decide) hE dJ5_remove_8 rfl (fun hE => ?_) (fun hE => ?_)
  · refine e_aload_n X hl 1 rfl dJ5_remove_13 rfl ?_
    refine e_iload_n X hl 0 rfl dJ5_remove_14 rfl ?_
    obtain ⟨v2, M3, h, hE⟩ := ob2_some hE
    refine r_callV1 X hM (b + 11) (dn hb 11 rfl) ck_J5 (rest := []) (met_J5_removeAt l G ad hp0 b hb M v1 h) (cwV 1 X.ht (lw_V q1893 q1605 q1606 q134 q1607) rfl rfl rfl hd_J5_removeAt (cxR (by decide) (by decide))) rfl hl.1 rfl (Nat.le_of_ble_eq_true rfl) dJ5_remove_15 ⟨Nat.le_refl _, Nat.le_refl _⟩ (fun H locs hM => ?_)
    refine e_pop X dJ5_remove_18 (va_rf_cat _) ?_
    refine e_iconst X dJ5_remove_19 ?_
    cases hE
    exact r_zret (x := 1) X hM rfl dJ5_remove_20
  · refine e_iconst X dJ5_remove_11 ?_
    cases hE
    exact r_zret (x := 0) X hM rfl dJ5_remove_12
theorem met_J5_remove (l : Launch) (G : GG) (ad : Nat → Nat) (hp0 : HP) {D : rw_D} (b : Nat) (hb : NB D b) {N : Nat} (M : RM) (a1 : Nat) (ha1 : D a1 = some (.inr (2, plF))) {out : (Int × RM)} (hE : f_J5_remove b N M a1 = some out) : MR l yJ5_remove (ws_ yJ5_remove cJ5_remove 3 (some .boolean)) 5 G D ad hp0 [.ref (ad (b + 11)), .ref (ad a1)] M (some (vI out.1)) out.2 :=
  MR.of (by decide +kernel) (Nat.le_of_ble_eq_true rfl) rfl (fun p e s m below meth c ls X hM hl => wb_J5_remove hb X ha1 hE hM hl)
def f_J5_offer (b : Nat) (N : Nat) (M : RM) (a1 : Nat) : Option (Int × RM) :=
  jn (up2 M (b + 11) 3 ((M (b + 11) 3) + 1)) fun M1 => jn (M1 (b + 11) 1) fun v2 => if w32 v2 < w32 ((9 : Nat) : Int) then (ob (f_J5_siftUp b N M1 v2 a1) fun M3 => jn (up2 M3 (b + 11) 1 (v2 + 1)) fun M4 => some (1, M4)) else (none)
theorem hd_J5_offer : yJ5_offer.cls = RJ5 ∧ yJ5_offer.cls ≠ "java/lang/invoke/MethodHandle" ∧ yJ5_offer.cls ≠ "java/lang/invoke/VarHandle" ∧ (parseMethodDescriptor yJ5_offer.desc).map (fun d => d.parameters.length) = some 1 := by decide +kernel
theorem wb_J5_offer {D : rw_D} {p : Program} {l : Launch} {e : Env} {s : State} {m : MethodId} {args : Array Value} {below : List Frame} {meth : Method} {c : Code} {G : GG} {ad : Nat → Nat} {hp0 : HP} {b : Nat} (hb : NB D b) (X : CX p s m args meth c cJ5_offer 3 RJ5 (some .boolean) G) {N : Nat} {M : RM} {a1 : Nat} (ha1 : D a1 = some (.inr (2, plF))) {out : (Int × RM)} (hE : f_J5_offer b N M a1 = some out) {H : Heap} {locs : List Loc} {ls : Array Slot} (hM : RW G D ad hp0 M H locs) (hl : lv_has ls 3 [(0, .ref (ad (b + 11))), (1, .ref (ad a1))]) : W p l e (rmD 4) s m args below meth c H locs 0 0 (QR below G D ad hp0 args s (some (vI out.1)) out.2) (F0 m 0 ls []) := by
  unfold f_J5_offer at hE
  refine e_aload_n X hl 1 rfl dJ5_offer_0 rfl ?_
  refine e_ifnonnullC X dJ5_offer_1 rfl ?_
  refine e_aload_n X hl 0 rfl dJ5_offer_12 rfl ?_
  refine e_dup X dJ5_offer_13 rfl ?_
  refine r_getI X hM ck_J5 (b + 11) 3 (dn hb 11 rfl) rfl (by decide) q268 rfl dJ5_offer_14 ?_
  refine e_iconst X dJ5_offer_17 ?_
  refine e_iadd X dJ5_offer_18 ?_
  refine r_putI X hM ck_J5 (b + 11) 3 (dn hb 11 rfl) rfl (by decide) q268 rfl rfl hE rfl dJ5_offer_19 (fun M1 hE H locs hM => ?_)
  refine e_aload_n X hl 0 rfl dJ5_offer_22 rfl ?_
  refine r_getI X hM ck_J5 (b + 11) 1 (dn hb 11 rfl) rfl (by decide) q265 rfl dJ5_offer_23 ?_
  refine e_top hE (fun v2 hE => ?_)
  refine e_istore_n X hl [(2, vI v2), (0, .ref (ad (b + 11))), (1, .ref (ad a1))] dJ5_offer_26 rfl (by decide) rfl (fun ls hl => ?_)
  refine e_iload_n X hl 0 rfl dJ5_offer_27 rfl ?_
  refine e_aload_n X hl 1 rfl dJ5_offer_28 rfl ?_
  refine r_getR X hM ck_J5 (b + 11) 0 (dn hb 11 rfl) rfl (by decide) q263 rfl dJ5_offer_29 ?_
  refine r_alen X hM (b + 19) (dn hb 19 rfl) (fun _ => rfl) dJ5_offer_32 ?_
  refine e_icmp_lt X (w32 v2) (w32 ((9 : Nat) : Int)) rfl rfl hE dJ5_offer_33 rfl (fun hE => ?_) (fun hE => ?_)
  · refine e_aload_n X hl 1 rfl dJ5_offer_43 rfl ?_
    refine e_iload_n X hl 0 rfl dJ5_offer_44 rfl ?_
    refine e_aload_n X hl 2 rfl dJ5_offer_45 rfl ?_
    obtain ⟨M3, h, hE⟩ := ob_some hE
    refine r_callV0 X hM (b + 11) (dn hb 11 rfl) ck_J5 (rest := []) (met_J5_siftUp l G ad hp0 b hb M1 v2 a1 ha1 h) (cwV 2 X.ht (lw_V q1870 q1872 qs25 q134 q1873) rfl rfl rfl hd_J5_siftUp (cxR (by decide) (by decide))) rfl hl.1 rfl (Nat.le_of_ble_eq_true rfl) dJ5_offer_46 ⟨Nat.le_refl _, Nat.le_refl _⟩ (fun H locs hM => ?_)
    refine e_aload_n X hl 1 rfl dJ5_offer_49 rfl ?_
    refine e_iload_n X hl 0 rfl dJ5_offer_50 rfl ?_
    refine e_iconst X dJ5_offer_51 ?_
    refine e_iadd X dJ5_offer_52 ?_
    refine r_putI X hM ck_J5 (b + 11) 1 (dn hb 11 rfl) rfl (by decide) q265 rfl rfl hE rfl dJ5_offer_53 (fun M4 hE H locs hM => ?_)
    refine e_iconst X dJ5_offer_56 ?_
    cases hE
    exact r_zret (x := 1) X hM rfl dJ5_offer_57
  · cases hE
theorem met_J5_offer (l : Launch) (G : GG) (ad : Nat → Nat) (hp0 : HP) {D : rw_D} (b : Nat) (hb : NB D b) {N : Nat} (M : RM) (a1 : Nat) (ha1 : D a1 = some (.inr (2, plF))) {out : (Int × RM)} (hE : f_J5_offer b N M a1 = some out) : MR l yJ5_offer (ws_ yJ5_offer cJ5_offer 3 (some .boolean)) 4 G D ad hp0 [.ref (ad (b + 11)), .ref (ad a1)] M (some (vI out.1)) out.2 :=
  MR.of (by decide +kernel) (Nat.le_of_ble_eq_true rfl) rfl (fun p e s m below meth c ls X hM hl => wb_J5_offer hb X ha1 hE hM hl)
def f_J5_add (b : Nat) (N : Nat) (M : RM) (a1 : Nat) : Option (Int × RM) :=
  ob2 (f_J5_offer b N M a1) fun v1 M2 => ob (tz v1) fun v3 => some (v3, M2)
theorem hd_J5_add : yJ5_add.cls = RJ5 ∧ yJ5_add.cls ≠ "java/lang/invoke/MethodHandle" ∧ yJ5_add.cls ≠ "java/lang/invoke/VarHandle" ∧ (parseMethodDescriptor yJ5_add.desc).map (fun d => d.parameters.length) = some 1 := by decide +kernel
theorem wb_J5_add {D : rw_D} {p : Program} {l : Launch} {e : Env} {s : State} {m : MethodId} {args : Array Value} {below : List Frame} {meth : Method} {c : Code} {G : GG} {ad : Nat → Nat} {hp0 : HP} {b : Nat} (hb : NB D b) (X : CX p s m args meth c cJ5_add 2 RJ5 (some .boolean) G) {N : Nat} {M : RM} {a1 : Nat} (ha1 : D a1 = some (.inr (2, plF))) {out : (Int × RM)} (hE : f_J5_add b N M a1 = some out) {H : Heap} {locs : List Loc} {ls : Array Slot} (hM : RW G D ad hp0 M H locs) (hl : lv_has ls 2 [(0, .ref (ad (b + 11))), (1, .ref (ad a1))]) : W p l e (rmD 5) s m args below meth c H locs 0 0 (QR below G D ad hp0 args s (some (vI out.1)) out.2) (F0 m 0 ls []) := by
  unfold f_J5_add at hE
  refine e_aload_n X hl 0 rfl dJ5_add_0 rfl ?_
  refine e_aload_n X hl 1 rfl dJ5_add_1 rfl ?_
  obtain ⟨v1, M2, h, hE⟩ := ob2_some hE
  refine r_callV1 X hM (b + 11) (dn hb 11 rfl) ck_J5 (rest := []) (met_J5_offer l G ad hp0 b hb M a1 ha1 h) (cwV 1 X.ht (lw_V q2157 q2158 q2159 q134 q2160) rfl rfl rfl hd_J5_offer (cxR (by decide) (by decide))) rfl hl.1 rfl (Nat.le_of_ble_eq_true rfl) dJ5_add_2 ⟨Nat.le_refl _, Nat.le_refl _⟩ (fun H locs hM => ?_)
  obtain ⟨v3, hz, hE⟩ := ob_some hE
  have hn := nb_z hz
  have hz := (tz_some hz).2
  rw [hz] at hE
  cases hE
  exact r_zret X hM hn dJ5_add_5
theorem met_J5_add (l : Launch) (G : GG) (ad : Nat → Nat) (hp0 : HP) {D : rw_D} (b : Nat) (hb : NB D b) {N : Nat} (M : RM) (a1 : Nat) (ha1 : D a1 = some (.inr (2, plF))) {out : (Int × RM)} (hE : f_J5_add b N M a1 = some out) : MR l yJ5_add (ws_ yJ5_add cJ5_add 2 (some .boolean)) 5 G D ad hp0 [.ref (ad (b + 11)), .ref (ad a1)] M (some (vI out.1)) out.2 :=
  MR.of (by decide +kernel) (Nat.le_of_ble_eq_true rfl) rfl (fun p e s m below meth c ls X hM hl => wb_J5_add hb X ha1 hE hM hl)
def f_J5_poll (b : Nat) (N : Nat) (M : RM)  : Option (Int × RM) :=
  ob (gA 9 M (b + 19) 0) fun v1 => if v1 < 0 then (some (v1, M)) else (jn (up2 M (b + 11) 3 ((M (b + 11) 3) + 1)) fun M2 => jn (up2 M2 (b + 11) 1 ((M2 (b + 11) 1) - 1)) fun M3 => jn ((M2 (b + 11) 1) - 1) fun v4 => ob (gA 9 M3 (b + 19) ((M2 (b + 11) 1) - 1)) fun v5 => ob (dr (b + 21) 8 v5) fun o6 => ob (sA 9 M3 (b + 19) v4 (-1)) fun M7 => if w32 v4 ≤ 0 then (some (v1, M7)) else (if ¬ (M7 (b + 11) 2) < 0 then (none) else (ob (f_J5_siftDownComparable b N M7 0 o6 (b + 19) 9 v4) fun M8 => some (v1, M8))))
theorem hd_J5_poll : yJ5_poll.cls = RJ5 ∧ yJ5_poll.cls ≠ "java/lang/invoke/MethodHandle" ∧ yJ5_poll.cls ≠ "java/lang/invoke/VarHandle" ∧ (parseMethodDescriptor yJ5_poll.desc).map (fun d => d.parameters.length) = some 0 := by decide +kernel
theorem wb_J5_poll {D : rw_D} {p : Program} {l : Launch} {e : Env} {s : State} {m : MethodId} {args : Array Value} {below : List Frame} {meth : Method} {c : Code} {G : GG} {ad : Nat → Nat} {hp0 : HP} {b : Nat} (hb : NB D b) (X : CX p s m args meth c cJ5_poll 6 RJ5 (some (.object "java/lang/Object")) G) {N : Nat} {M : RM}  {out : (Int × RM)} (hE : f_J5_poll b N M = some out) {H : Heap} {locs : List Loc} {ls : Array Slot} (hM : RW G D ad hp0 M H locs) (hl : lv_has ls 6 [(0, .ref (ad (b + 11)))]) : W p l e (rmD 3) s m args below meth c H locs 0 0 (QR below G D ad hp0 args s (some (va_rf (rfo ad out.1))) out.2) (F0 m 0 ls []) := by
  unfold f_J5_poll at hE
  refine e_aload_n X hl 0 rfl dJ5_poll_0 rfl ?_
  refine r_getR X hM ck_J5 (b + 11) 0 (dn hb 11 rfl) rfl (by decide) q263 rfl dJ5_poll_1 ?_
  refine e_dup X dJ5_poll_4 rfl ?_
  refine e_astore_n X hl [(1, .ref (ad (b + 19))), (0, .ref (ad (b + 11)))] dJ5_poll_5 rfl (by decide) rfl (fun ls hl => ?_)
  refine e_iconst X dJ5_poll_6 ?_
  refine r_aald X hM (b + 19) (dn hb 19 rfl) (fun _ => rfl) (fun _ => rfl) (Nat.le_of_ble_eq_true rfl) hE dJ5_poll_7 (fun v1 hE => ?_)
  refine e_dup X dJ5_poll_8 (va_rf_cat _) ?_
  refine e_astoreR_n X hl [(2, va_rf (rfo ad v1)), (1, .ref (ad (b + 19))), (0, .ref (ad (b + 11)))] dJ5_poll_9 rfl (by decide) rfl (fun ls hl => ?_)
  refine e_ifnullR X hE dJ5_poll_10 rfl (fun hE => ?_) (fun hE => ?_)
  · refine e_aloadR_n X hl 0 rfl dJ5_poll_79 rfl ?_
    cases hE
    exact r_rretR X hM (Or.inl ⟨_, rfl⟩) dJ5_poll_80
  · refine e_aload_n X hl 2 rfl dJ5_poll_13 rfl ?_
    refine e_dup X dJ5_poll_14 rfl ?_
    refine r_getI X hM ck_J5 (b + 11) 3 (dn hb 11 rfl) rfl (by decide) q268 rfl dJ5_poll_15 ?_
    refine e_iconst X dJ5_poll_18 ?_
    refine e_iadd X dJ5_poll_19 ?_
    refine r_putI X hM ck_J5 (b + 11) 3 (dn hb 11 rfl) rfl (by decide) q268 rfl rfl hE rfl dJ5_poll_20 (fun M2 hE H locs hM => ?_)
    refine e_aload_n X hl 1 rfl dJ5_poll_23 rfl ?_
    refine e_aload_n X hl 2 rfl dJ5_poll_24 rfl ?_
    refine e_dup X dJ5_poll_25 rfl ?_
    refine r_getI X hM ck_J5 (b + 11) 1 (dn hb 11 rfl) rfl (by decide) q265 rfl dJ5_poll_26 ?_
    refine e_iconst X dJ5_poll_29 ?_
    refine e_isub X dJ5_poll_30 ?_
    refine e_dup_x1 X dJ5_poll_31 rfl rfl ?_
    refine r_putI X hM ck_J5 (b + 11) 1 (dn hb 11 rfl) rfl (by decide) q265 rfl rfl hE rfl dJ5_poll_32 (fun M3 hE H locs hM => ?_)
    refine e_dup X dJ5_poll_35 rfl ?_
    refine e_top hE (fun v4 hE => ?_)
    refine e_istore_n X hl [(3, vI v4), (2, va_rf (rfo ad v1)), (1, .ref (ad (b + 19))), (0, .ref (ad (b + 11)))] dJ5_poll_36 rfl (by decide) (by generalize rfo ad v1 = r; cases r <;> rfl) (fun ls hl => ?_)
    refine r_aald X hM (b + 19) (dn hb 19 rfl) (fun _ => rfl) (fun _ => rfl) (Nat.le_of_ble_eq_true rfl) hE dJ5_poll_37 (fun v5 hE => ?_)
    refine e_deref hE (fun o6 ho6 hE => ?_)
    refine e_astore X hl [(4, .ref (ad o6)), (3, vI v4), (2, va_rf (rfo ad v1)), (1, .ref (ad (b + 19))), (0, .ref (ad (b + 11)))] dJ5_poll_38 (by decide) rfl (fun ls hl => ?_)
    refine e_aload_n X hl 3 rfl dJ5_poll_40 rfl ?_
    refine e_iload_n X hl 1 rfl dJ5_poll_41 rfl ?_
    refine e_null (ad := ad) X dJ5_poll_42 ?_
    refine r_aastN X hM (b + 19) (dn hb 19 rfl) (fun _ => rfl) (fun _ => rfl) (Nat.le_of_ble_eq_true rfl) hE dJ5_poll_43 (fun M7 hE H locs hM => ?_)
    refine e_iload_n X hl 1 rfl dJ5_poll_44 rfl ?_
    refine e_if_le X (w32 v4) rfl hE dJ5_poll_45 rfl (fun hE => ?_) (fun hE => ?_)
    · refine e_aloadR_n X hl 2 rfl dJ5_poll_79 rfl ?_
      cases hE
      exact r_rretR X hM (Or.inl ⟨_, rfl⟩) dJ5_poll_80
    · refine e_aload_n X hl 4 rfl dJ5_poll_48 rfl ?_
      refine r_getC X hM ck_J5 (b + 11) 2 (dn hb 11 rfl) rfl (by decide) q266 rfl dJ5_poll_49 ?_
      refine e_dup X dJ5_poll_52 (va_rf_cat _) ?_
      refine e_astoreR X hl [(5, va_rf (rfo ad (M7 (b + 11) 2))), (4, .ref (ad o6)), (3, vI v4), (2, va_rf (rfo ad v1)), (1, .ref (ad (b + 19))), (0, .ref (ad (b + 11)))] dJ5_poll_53 (by decide) rfl (fun ls hl => ?_)
      refine e_ifnonnullR X hE dJ5_poll_55 rfl (fun hE => ?_) (fun hE => ?_)
      · cases hE
      · refine e_iconst X dJ5_poll_58 ?_
        refine e_aload X hl 1 rfl dJ5_poll_59 ?_
        refine e_aload_n X hl 4 rfl dJ5_poll_61 rfl ?_
        refine e_iload_n X hl 2 rfl dJ5_poll_62 rfl ?_
        obtain ⟨M8, h, hE⟩ := ob_some hE
        refine r_callS0 X hM (rest := []) (met_J5_siftDownComparable l G ad hp0 b hb M7 0 o6 (b + 19) 9 v4 (dpl hb ho6) (dn hb 19 rfl) (Nat.le_of_ble_eq_true rfl) h) (va_cwS 4 X.ht (lw_S q1644 q1645 q134 q1646) rfl rfl rfl hd_J5_siftDownComparable (cxR (by decide) (by decide))) rfl hl.1 rfl (Nat.le_of_ble_eq_true rfl) dJ5_poll_63 ⟨Nat.le_refl _, Nat.le_refl _⟩ (fun H locs hM => ?_)
        refine e_goto X dJ5_poll_66 rfl ?_
        refine e_aloadR_n X hl 3 rfl dJ5_poll_79 rfl ?_
        cases hE
        exact r_rretR X hM (Or.inl ⟨_, rfl⟩) dJ5_poll_80
theorem met_J5_poll (l : Launch) (G : GG) (ad : Nat → Nat) (hp0 : HP) {D : rw_D} (b : Nat) (hb : NB D b) {N : Nat} (M : RM)   {out : (Int × RM)} (hE : f_J5_poll b N M = some out) : MR l yJ5_poll (ws_ yJ5_poll cJ5_poll 6 (some (.object "java/lang/Object"))) 3 G D ad hp0 [.ref (ad (b + 11))] M (some (va_rf (rfo ad out.1))) out.2 :=
  MR.of (by decide +kernel) (Nat.le_of_ble_eq_true rfl) rfl (fun p e s m below meth c ls X hM hl => wb_J5_poll hb X hE hM hl)
def f_J0_isEmpty (b : Nat) (M0 : RM)  : Option Int :=
  ob (f_J5_size b M0) fun v1 => if ¬ w32 v1 = 0 then (some 0) else (some 1)
theorem hd_J0_isEmpty : yJ0_isEmpty.cls = RJ0 ∧ yJ0_isEmpty.cls ≠ "java/lang/invoke/MethodHandle" ∧ yJ0_isEmpty.cls ≠ "java/lang/invoke/VarHandle" ∧ (parseMethodDescriptor yJ0_isEmpty.desc).map (fun d => d.parameters.length) = some 0 := by decide +kernel
theorem wb_J0_isEmpty {D : rw_D} {p : Program} {l : Launch} {e : Env} {s : State} {m : MethodId} {args : Array Value} {below : List Frame} {meth : Method} {c : Code} {G : GG} {ad : Nat → Nat} {hp0 : HP} {M0 : RM} {b : Nat} (hb : NB D b) (X : CX p s m args meth c cJ0_isEmpty 1 RJ0 (some .boolean) G)  {out : Int} (hE : f_J0_isEmpty b M0 = some out) {H : Heap} {locs : List Loc} {ls : Array Slot} (hM : RW G D ad hp0 M0 H locs) (hl : lv_has ls 1 [(0, .ref (ad (b + 11)))]) : W p l e (rmD 1) s m args below meth c H locs 0 0 (QR below G D ad hp0 args s (some (vI out)) M0) (F0 m 0 ls []) := by
  unfold f_J0_isEmpty at hE
  refine e_aload_n X hl 0 rfl dJ0_isEmpty_0 rfl ?_
  obtain ⟨v1, h, hE⟩ := ob_some hE
  refine r_callU1 X hM (b + 11) (dn hb 11 rfl) ck_J5 (rest := []) (met_J5_size l G ad hp0 b hb M0 h) (cw_U X 0 q2175 q3588 q3593 q2180 q134 q2181 q877 (by decide +kernel) (by decide) (by decide)) rfl hl.1 rfl (Nat.le_of_ble_eq_true rfl) dJ0_isEmpty_1 ⟨Nat.le_refl _, Nat.le_refl _⟩ (fun H locs hM => ?_)
  refine e_if_ne X (w32 v1) rfl hE dJ0_isEmpty_4 rfl (fun hE => ?_) (fun hE => ?_)
  · refine e_iconst X dJ0_isEmpty_11 ?_
    cases hE
    exact r_zret (x := 0) X hM rfl dJ0_isEmpty_12
  · refine e_iconst X dJ0_isEmpty_7 ?_
    refine e_goto X dJ0_isEmpty_8 rfl ?_
    cases hE
    exact r_zret (x := 1) X hM rfl dJ0_isEmpty_12
theorem met_J0_isEmpty (l : Launch) (G : GG) (ad : Nat → Nat) (hp0 : HP) {D : rw_D} (b : Nat) (hb : NB D b) (M0 : RM)   {out : Int} (hE : f_J0_isEmpty b M0 = some out) : MR l yJ0_isEmpty (ws_ yJ0_isEmpty cJ0_isEmpty 1 (some .boolean)) 1 G D ad hp0 [.ref (ad (b + 11))] M0 (some (vI out)) M0 :=
  MR.of (by decide +kernel) (Nat.le_of_ble_eq_true rfl) rfl (fun p e s m below meth c ls X hM hl => wb_J0_isEmpty hb X hE hM hl)
def f_J6_wordIndex (o : Nat) (M0 : RM) (a1 : Int) : Option Int :=
  some (iShr a1 6)
theorem hd_J6_wordIndex : yJ6_wordIndex.cls ≠ "java/lang/invoke/MethodHandle" ∧ yJ6_wordIndex.cls ≠ "java/lang/invoke/VarHandle" ∧ (parseMethodDescriptor yJ6_wordIndex.desc).map (fun d => d.parameters.length) = some 1 := by decide +kernel
theorem wb_J6_wordIndex {D : rw_D} {p : Program} {l : Launch} {e : Env} {s : State} {m : MethodId} {args : Array Value} {below : List Frame} {meth : Method} {c : Code} {G : GG} {ad : Nat → Nat} {hp0 : HP} {M0 : RM} {o : Nat} (ho : BSo D o) (X : CX p s m args meth c cJ6_wordIndex 1 RJ6 (some .int) G) {a1 : Int}  {out : Int} (hE : f_J6_wordIndex o M0 a1 = some out) {H : Heap} {locs : List Loc} {ls : Array Slot} (hM : RW G D ad hp0 M0 H locs) (hl : lv_has ls 1 [(0, vI a1)]) : W p l e (rmD 0) s m args below meth c H locs 0 0 (QR below G D ad hp0 args s (some (vI out)) M0) (F0 m 0 ls []) := by
  unfold f_J6_wordIndex at hE
  refine e_iload_n X hl 0 rfl dJ6_wordIndex_0 rfl ?_
  refine e_bipush X dJ6_wordIndex_1 (by decide) ?_
  refine e_ishr X dJ6_wordIndex_3 ?_
  cases hE
  exact r_zret X hM rfl dJ6_wordIndex_4
theorem met_J6_wordIndex (l : Launch) (G : GG) (ad : Nat → Nat) (hp0 : HP) {D : rw_D} (o : Nat) (ho : BSo D o) (M0 : RM) (a1 : Int)  {out : Int} (hE : f_J6_wordIndex o M0 a1 = some out) : MR l yJ6_wordIndex (ws_ yJ6_wordIndex cJ6_wordIndex 1 (some .int)) 0 G D ad hp0 [vI a1] M0 (some (vI out)) M0 :=
  MR.of (by decide +kernel) (Nat.le_of_ble_eq_true rfl) rfl (fun p e s m below meth c ls X hM hl => wb_J6_wordIndex ho X hE hM hl)
def f_J6_checkInvariants (o : Nat) (M0 : RM)  : Option Unit :=
  if ¬ (1 : Int) = 0 then (if ¬ (1 : Int) = 0 then (if ¬ (1 : Int) = 0 then (some ()) else (none)) else (none)) else (none)
theorem hd_J6_checkInvariants : yJ6_checkInvariants.cls = RJ6 ∧ yJ6_checkInvariants.cls ≠ "java/lang/invoke/MethodHandle" ∧ yJ6_checkInvariants.cls ≠ "java/lang/invoke/VarHandle" ∧ (parseMethodDescriptor yJ6_checkInvariants.desc).map (fun d => d.parameters.length) = some 0 := by decide +kernel
theorem wb_J6_checkInvariants {D : rw_D} {p : Program} {l : Launch} {e : Env} {s : State} {m : MethodId} {args : Array Value} {below : List Frame} {meth : Method} {c : Code} {G : GG} {ad : Nat → Nat} {hp0 : HP} {M0 : RM} {o : Nat} (ho : BSo D o) (X : CX p s m args meth c cJ6_checkInvariants 1 RJ6 none G)  {out : Unit} (hE : f_J6_checkInvariants o M0 = some out) {H : Heap} {locs : List Loc} {ls : Array Slot} (hM : RW G D ad hp0 M0 H locs) (hl : lv_has ls 1 [(0, .ref (ad o))]) : W p l e (rmD 0) s m args below meth c H locs 0 0 (QR below G D ad hp0 args s none M0) (F0 m 0 ls []) := by
  unfold f_J6_checkInvariants at hE
  refine r_gets (C := "java/util/BitSet") (v := 1) X hM 1 (by decide) (by decide +kernel) q1642 rfl dJ6_checkInvariants_0 ?_
  refine e_if_ne X 1 (by decide) hE dJ6_checkInvariants_3 rfl (fun hE => ?_) (fun hE => ?_)
  · refine r_gets (C := "java/util/BitSet") (v := 1) X hM 1 (by decide) (by decide +kernel) q1642 rfl dJ6_checkInvariants_37 ?_
    refine e_if_ne X 1 (by decide) hE dJ6_checkInvariants_40 rfl (fun hE => ?_) (fun hE => ?_)
    · refine r_gets (C := "java/util/BitSet") (v := 1) X hM 1 (by decide) (by decide +kernel) q1642 rfl dJ6_checkInvariants_70 ?_
      refine e_if_ne X 1 (by decide) hE dJ6_checkInvariants_73 rfl (fun hE => ?_) (fun hE => ?_)
      · cases hE
        exact r_vret X hM dJ6_checkInvariants_110
      · cases hE
    · cases hE
  · cases hE
theorem met_J6_checkInvariants (l : Launch) (G : GG) (ad : Nat → Nat) (hp0 : HP) {D : rw_D} (o : Nat) (ho : BSo D o) (M0 : RM)   {out : Unit} (hE : f_J6_checkInvariants o M0 = some out) : MR l yJ6_checkInvariants (ws_ yJ6_checkInvariants cJ6_checkInvariants 1 none) 0 G D ad hp0 [.ref (ad o)] M0 none M0 :=
  MR.of (by decide +kernel) (Nat.le_of_ble_eq_true rfl) rfl (fun p e s m below meth c ls X hM hl => wb_J6_checkInvariants ho X hE hM hl)
def f_J6_get (o : Nat) (M0 : RM) (a1 : Int) : Option Int :=
  if 0 ≤ w32 a1 then (ob (f_J6_checkInvariants o M0) fun u1 => ob (f_J6_wordIndex o M0 a1) fun v2 => if w32 (M0 o 1) ≤ w32 v2 then (some 0) else (ob (gA 1 M0 (o + 1) v2) fun v3 => if w64 (lAnd v3 (lShl 1 a1)) = 0 then (some 0) else (some 1))) else (none)
theorem hd_J6_get : yJ6_get.cls = RJ6 ∧ yJ6_get.cls ≠ "java/lang/invoke/MethodHandle" ∧ yJ6_get.cls ≠ "java/lang/invoke/VarHandle" ∧ (parseMethodDescriptor yJ6_get.desc).map (fun d => d.parameters.length) = some 1 := by decide +kernel
theorem wb_J6_get {D : rw_D} {p : Program} {l : Launch} {e : Env} {s : State} {m : MethodId} {args : Array Value} {below : List Frame} {meth : Method} {c : Code} {G : GG} {ad : Nat → Nat} {hp0 : HP} {M0 : RM} {o : Nat} (ho : BSo D o) (X : CX p s m args meth c cJ6_get 3 RJ6 (some .boolean) G) {a1 : Int}  {out : Int} (hE : f_J6_get o M0 a1 = some out) {H : Heap} {locs : List Loc} {ls : Array Slot} (hM : RW G D ad hp0 M0 H locs) (hl : lv_has ls 3 [(0, .ref (ad o)), (1, vI a1)]) : W p l e (rmD 1) s m args below meth c H locs 0 0 (QR below G D ad hp0 args s (some (vI out)) M0) (F0 m 0 ls []) := by
  unfold f_J6_get at hE
  refine e_iload_n X hl 1 rfl dJ6_get_0 rfl ?_
  refine e_if_ge X (w32 a1) rfl hE dJ6_get_1 rfl (fun hE => ?_) (fun hE => ?_)
  · refine e_aload_n X hl 0 rfl dJ6_get_31 rfl ?_
    obtain ⟨u1, h, hE⟩ := ob_some hE
    refine r_callV0 X hM o ho.1 ck_J6 (rest := []) (met_J6_checkInvariants l G ad hp0 o ho M0 h) (cwV 0 X.ht (lw_V q1638 q1640 qs24 q135 q1641) rfl rfl rfl hd_J6_checkInvariants (cxR (by decide) (by decide))) rfl hl.1 rfl (Nat.le_of_ble_eq_true rfl) dJ6_get_32 ⟨Nat.le_refl _, Nat.le_refl _⟩ (fun H locs hM => ?_)
    refine e_iload_n X hl 1 rfl dJ6_get_35 rfl ?_
    obtain ⟨v2, h, hE⟩ := ob_some hE
    refine r_callS1 X hM (rest := []) (met_J6_wordIndex l G ad hp0 o ho M0 a1 h) (va_cwS 1 X.ht (lw_S q622 q623 q135 q624) rfl rfl rfl hd_J6_wordIndex (cxR (by decide) (by decide))) rfl hl.1 rfl (Nat.le_of_ble_eq_true rfl) dJ6_get_36 ⟨Nat.le_refl _, Nat.le_refl _⟩ (fun H locs hM => ?_)
    refine e_istore_n X hl [(2, vI v2), (0, .ref (ad o)), (1, vI a1)] dJ6_get_39 rfl (by decide) rfl (fun ls hl => ?_)
    refine e_iload_n X hl 0 rfl dJ6_get_40 rfl ?_
    refine e_aload_n X hl 1 rfl dJ6_get_41 rfl ?_
    refine r_getI X hM ck_J6 o 1 ho.1 rfl (by decide) q626 rfl dJ6_get_42 ?_
    refine e_icmp_ge X (w32 v2) (w32 (M0 o 1)) rfl rfl hE dJ6_get_45 rfl (fun hE => ?_) (fun hE => ?_)
    · refine e_iconst X dJ6_get_67 ?_
      cases hE
      exact r_zret (x := 0) X hM rfl dJ6_get_68
    · refine e_aload_n X hl 1 rfl dJ6_get_48 rfl ?_
      refine r_getR X hM ck_J6 o 0 ho.1 rfl (by decide) q625 rfl dJ6_get_49 ?_
      refine e_iload_n X hl 0 rfl dJ6_get_52 rfl ?_
      refine r_lald X hM (o + 1) ho.2 (Nat.le_of_ble_eq_true rfl) hE dJ6_get_53 (fun v3 hE => ?_)
      refine e_lconst X 1 dJ6_get_54 (by decide) ?_
      refine e_iload_n X hl 2 rfl dJ6_get_55 rfl ?_
      refine e_lshl X dJ6_get_56 ?_
      refine e_land X dJ6_get_57 ?_
      refine e_lconst X 0 dJ6_get_58 (by decide) ?_
      refine e_lcmp_eq X (w64 (lAnd v3 (lShl 1 a1))) 0 rfl (by decide) hE dJ6_get_59 dJ6_get_60 rfl (fun hE => ?_) (fun hE => ?_)
      · refine e_iconst X dJ6_get_67 ?_
        cases hE
        exact r_zret (x := 0) X hM rfl dJ6_get_68
      · refine e_iconst X dJ6_get_63 ?_
        refine e_goto X dJ6_get_64 rfl ?_
        cases hE
        exact r_zret (x := 1) X hM rfl dJ6_get_68
  · cases hE
theorem met_J6_get (l : Launch) (G : GG) (ad : Nat → Nat) (hp0 : HP) {D : rw_D} (o : Nat) (ho : BSo D o) (M0 : RM) (a1 : Int)  {out : Int} (hE : f_J6_get o M0 a1 = some out) : MR l yJ6_get (ws_ yJ6_get cJ6_get 3 (some .boolean)) 1 G D ad hp0 [.ref (ad o), vI a1] M0 (some (vI out)) M0 :=
  MR.of (by decide +kernel) (Nat.le_of_ble_eq_true rfl) rfl (fun p e s m below meth c ls X hM hl => wb_J6_get ho X hE hM hl)
def f_J6_clear_L0 (o : Nat) (N : Nat)  (k : RM → Option RM) : Nat → RM → Option RM
  | 0, _ => none
  | n + 1, M =>
    if w32 (M o 1) ≤ 0 then (k M) else (jn (up2 M o 1 ((M o 1) - 1)) fun M1 => ob (sA 1 M1 (o + 1) ((M o 1) - 1) 0) fun M2 => f_J6_clear_L0 o N  k n M2)
def f_J6_clear (o : Nat) (N : Nat) (M : RM)  : Option RM :=
  f_J6_clear_L0 o N  (fun (M3 : RM) => some M3) N M
theorem hd_J6_clear : yJ6_clear.cls = RJ6 ∧ yJ6_clear.cls ≠ "java/lang/invoke/MethodHandle" ∧ yJ6_clear.cls ≠ "java/lang/invoke/VarHandle" ∧ (parseMethodDescriptor yJ6_clear.desc).map (fun d => d.parameters.length) = some 0 := by decide +kernel
theorem wl_J6_clear_0 {D : rw_D} {p : Program} {l : Launch} {e : Env} {s : State} {m : MethodId} {args : Array Value} {below : List Frame} {meth : Method} {c : Code} {G : GG} {ad : Nat → Nat} {hp0 : HP} {o : Nat} (ho : BSo D o) (X : CX p s m args meth c cJ6_clear 1 RJ6 none G) {N : Nat}  {k : RM → Option RM} {out : RM} : ∀ (n : Nat) (M : RM) (H : Heap) (locs : List Loc) (ls : Array Slot) (hE : f_J6_clear_L0 o N  k n M = some out) (hM : RW G D ad hp0 M H locs) (hl : lv_has ls 1 [(0, .ref (ad o))]) (hk : ∀ (M : RM) (H : Heap) (locs : List Loc) (ls : Array Slot), RW G D ad hp0 M H locs → lv_has ls 1 [(0, .ref (ad o))] → k M = some out → W p l e (rmD 0) s m args below meth c H locs 0 0 (QR below G D ad hp0 args s none out) (F0 m 27 ls [])), W p l e (rmD 0) s m args below meth c H locs 0 0 (QR below G D ad hp0 args s none out) (F0 m 0 ls []) := by
  intro n
  induction n with
  | zero =>
    intro M H locs ls hE hM hl hk
    unfold f_J6_clear_L0 at hE
    cases hE
  | succ n ih =>
    intro M H locs ls hE hM hl hk
    unfold f_J6_clear_L0 at hE
    refine e_aload_n X hl 0 rfl dJ6_clear_0 rfl ?_
    refine r_getI X hM ck_J6 o 1 ho.1 rfl (by decide) q626 rfl dJ6_clear_1 ?_
    refine e_if_le X (w32 (M o 1)) rfl hE dJ6_clear_4 rfl (fun hE => ?_) (fun hE => ?_)
    · exact hk M _ _ _ hM (lv_sub hl [0] rfl) hE
    · refine e_aload_n X hl 0 rfl dJ6_clear_7 rfl ?_
      refine r_getR X hM ck_J6 o 0 ho.1 rfl (by decide) q625 rfl dJ6_clear_8 ?_
      refine e_aload_n X hl 0 rfl dJ6_clear_11 rfl ?_
      refine e_dup X dJ6_clear_12 rfl ?_
      refine r_getI X hM ck_J6 o 1 ho.1 rfl (by decide) q626 rfl dJ6_clear_13 ?_
      refine e_iconst X dJ6_clear_16 ?_
      refine e_isub X dJ6_clear_17 ?_
      refine e_dup_x1 X dJ6_clear_18 rfl rfl ?_
      refine r_putI X hM ck_J6 o 1 ho.1 rfl (by decide) q626 rfl rfl hE rfl dJ6_clear_19 (fun M1 hE H locs hM => ?_)
      refine e_lconst X 0 dJ6_clear_22 (by decide) ?_
      refine r_last X hM (o + 1) ho.2 (Nat.le_of_ble_eq_true rfl) hE dJ6_clear_23 (fun M2 hE H locs hM => ?_)
      refine e_goto X dJ6_clear_24 rfl ?_
      exact ih M2 _ _ _ hE hM (lv_sub hl [0] rfl) hk
theorem wb_J6_clear {D : rw_D} {p : Program} {l : Launch} {e : Env} {s : State} {m : MethodId} {args : Array Value} {below : List Frame} {meth : Method} {c : Code} {G : GG} {ad : Nat → Nat} {hp0 : HP} {o : Nat} (ho : BSo D o) (X : CX p s m args meth c cJ6_clear 1 RJ6 none G) {N : Nat} {M : RM}  {out : RM} (hE : f_J6_clear o N M = some out) {H : Heap} {locs : List Loc} {ls : Array Slot} (hM : RW G D ad hp0 M H locs) (hl : lv_has ls 1 [(0, .ref (ad o))]) : W p l e (rmD 0) s m args below meth c H locs 0 0 (QR below G D ad hp0 args s none out) (F0 m 0 ls []) := by
  unfold f_J6_clear at hE
  refine wl_J6_clear_0 ho X _ M _ _ _ hE hM (lv_sub hl [0] rfl) (fun M3 H locs ls hM hl hE => ?_)
  cases hE
  exact r_vret X hM dJ6_clear_27
theorem met_J6_clear (l : Launch) (G : GG) (ad : Nat → Nat) (hp0 : HP) {D : rw_D} (o : Nat) (ho : BSo D o) {N : Nat} (M : RM)   {out : RM} (hE : f_J6_clear o N M = some out) : MR l yJ6_clear (ws_ yJ6_clear cJ6_clear 1 none) 0 G D ad hp0 [.ref (ad o)] M none out :=
  MR.of (by decide +kernel) (Nat.le_of_ble_eq_true rfl) rfl (fun p e s m below meth c ls X hM hl => wb_J6_clear ho X hE hM hl)
def f_J6_ensureCapacity (o : Nat) (M0 : RM) (a1 : Int) : Option Unit :=
  if w32 a1 ≤ w32 ((1 : Nat) : Int) then (some ()) else (none)
theorem hd_J6_ensureCapacity : yJ6_ensureCapacity.cls = RJ6 ∧ yJ6_ensureCapacity.cls ≠ "java/lang/invoke/MethodHandle" ∧ yJ6_ensureCapacity.cls ≠ "java/lang/invoke/VarHandle" ∧ (parseMethodDescriptor yJ6_ensureCapacity.desc).map (fun d => d.parameters.length) = some 1 := by decide +kernel
theorem wb_J6_ensureCapacity {D : rw_D} {p : Program} {l : Launch} {e : Env} {s : State} {m : MethodId} {args : Array Value} {below : List Frame} {meth : Method} {c : Code} {G : GG} {ad : Nat → Nat} {hp0 : HP} {M0 : RM} {o : Nat} (ho : BSo D o) (X : CX p s m args meth c cJ6_ensureCapacity 3 RJ6 none G) {a1 : Int}  {out : Unit} (hE : f_J6_ensureCapacity o M0 a1 = some out) {H : Heap} {locs : List Loc} {ls : Array Slot} (hM : RW G D ad hp0 M0 H locs) (hl : lv_has ls 3 [(0, .ref (ad o)), (1, vI a1)]) : W p l e (rmD 0) s m args below meth c H locs 0 0 (QR below G D ad hp0 args s none M0) (F0 m 0 ls []) := by
  unfold f_J6_ensureCapacity at hE
  refine e_aload_n X hl 0 rfl dJ6_ensureCapacity_0 rfl ?_
  refine r_getR X hM ck_J6 o 0 ho.1 rfl (by decide) q625 rfl dJ6_ensureCapacity_1 ?_
  refine r_alen X hM (o + 1) ho.2 (fun _ => rfl) dJ6_ensureCapacity_4 ?_
  refine e_iload_n X hl 1 rfl dJ6_ensureCapacity_5 rfl ?_
  refine e_icmp_ge X (w32 ((1 : Nat) : Int)) (w32 a1) rfl rfl hE dJ6_ensureCapacity_6 rfl (fun hE => ?_) (fun hE => ?_)
  · cases hE
    exact r_vret X hM dJ6_ensureCapacity_38
  · cases hE
theorem met_J6_ensureCapacity (l : Launch) (G : GG) (ad : Nat → Nat) (hp0 : HP) {D : rw_D} (o : Nat) (ho : BSo D o) (M0 : RM) (a1 : Int)  {out : Unit} (hE : f_J6_ensureCapacity o M0 a1 = some out) : MR l yJ6_ensureCapacity (ws_ yJ6_ensureCapacity cJ6_ensureCapacity 3 none) 0 G D ad hp0 [.ref (ad o), vI a1] M0 none M0 :=
  MR.of (by decide +kernel) (Nat.le_of_ble_eq_true rfl) rfl (fun p e s m below meth c ls X hM hl => wb_J6_ensureCapacity ho X hE hM hl)
def f_J6_expandTo (o : Nat) (M : RM) (a1 : Int) : Option RM :=
  jn (a1 + 1) fun v1 => if w32 v1 ≤ w32 (M o 1) then (some M) else (ob (f_J6_ensureCapacity o M v1) fun u2 => jn (up2 M o 1 v1) fun M3 => some M3)
theorem hd_J6_expandTo : yJ6_expandTo.cls = RJ6 ∧ yJ6_expandTo.cls ≠ "java/lang/invoke/MethodHandle" ∧ yJ6_expandTo.cls ≠ "java/lang/invoke/VarHandle" ∧ (parseMethodDescriptor yJ6_expandTo.desc).map (fun d => d.parameters.length) = some 1 := by decide +kernel
theorem wb_J6_expandTo {D : rw_D} {p : Program} {l : Launch} {e : Env} {s : State} {m : MethodId} {args : Array Value} {below : List Frame} {meth : Method} {c : Code} {G : GG} {ad : Nat → Nat} {hp0 : HP} {o : Nat} (ho : BSo D o) (X : CX p s m args meth c cJ6_expandTo 3 RJ6 none G) {M : RM} {a1 : Int}  {out : RM} (hE : f_J6_expandTo o M a1 = some out) {H : Heap} {locs : List Loc} {ls : Array Slot} (hM : RW G D ad hp0 M H locs) (hl : lv_has ls 3 [(0, .ref (ad o)), (1, vI a1)]) : W p l e (rmD 1) s m args below meth c H locs 0 0 (QR below G D ad hp0 args s none out) (F0 m 0 ls []) := by
  unfold f_J6_expandTo at hE
  refine e_iload_n X hl 1 rfl dJ6_expandTo_0 rfl ?_
  refine e_iconst X dJ6_expandTo_1 ?_
  refine e_iadd X dJ6_expandTo_2 ?_
  refine e_top hE (fun v1 hE => ?_)
  refine e_istore_n X hl [(2, vI v1), (0, .ref (ad o)), (1, vI a1)] dJ6_expandTo_3 rfl (by decide) rfl (fun ls hl => ?_)
  refine e_aload_n X hl 1 rfl dJ6_expandTo_4 rfl ?_
  refine r_getI X hM ck_J6 o 1 ho.1 rfl (by decide) q626 rfl dJ6_expandTo_5 ?_
  refine e_iload_n X hl 0 rfl dJ6_expandTo_8 rfl ?_
  refine e_icmp_ge X (w32 (M o 1)) (w32 v1) rfl rfl hE dJ6_expandTo_9 rfl (fun hE => ?_) (fun hE => ?_)
  · cases hE
    exact r_vret X hM dJ6_expandTo_22
  · refine e_aload_n X hl 1 rfl dJ6_expandTo_12 rfl ?_
    refine e_iload_n X hl 0 rfl dJ6_expandTo_13 rfl ?_
    obtain ⟨u2, h, hE⟩ := ob_some hE
    refine r_callV0 X hM o ho.1 ck_J6 (rest := []) (met_J6_ensureCapacity l G ad hp0 o ho M v1 h) (cwV 1 X.ht (lw_V q2294 q2296 qs52 q135 q2297) rfl rfl rfl hd_J6_ensureCapacity (cxR (by decide) (by decide))) rfl hl.1 rfl (Nat.le_of_ble_eq_true rfl) dJ6_expandTo_14 ⟨Nat.le_refl _, Nat.le_refl _⟩ (fun H locs hM => ?_)
    refine e_aload_n X hl 1 rfl dJ6_expandTo_17 rfl ?_
    refine e_iload_n X hl 0 rfl dJ6_expandTo_18 rfl ?_
    refine r_putI X hM ck_J6 o 1 ho.1 rfl (by decide) q626 rfl rfl hE rfl dJ6_expandTo_19 (fun M3 hE H locs hM => ?_)
    cases hE
    exact r_vret X hM dJ6_expandTo_22
theorem met_J6_expandTo (l : Launch) (G : GG) (ad : Nat → Nat) (hp0 : HP) {D : rw_D} (o : Nat) (ho : BSo D o) (M : RM) (a1 : Int)  {out : RM} (hE : f_J6_expandTo o M a1 = some out) : MR l yJ6_expandTo (ws_ yJ6_expandTo cJ6_expandTo 3 none) 1 G D ad hp0 [.ref (ad o), vI a1] M none out :=
  MR.of (by decide +kernel) (Nat.le_of_ble_eq_true rfl) rfl (fun p e s m below meth c ls X hM hl => wb_J6_expandTo ho X hE hM hl)
def f_J6_set (o : Nat) (M : RM) (a1 : Int) : Option RM :=
  if 0 ≤ w32 a1 then (ob (f_J6_wordIndex o M a1) fun v1 => ob (f_J6_expandTo o M v1) fun M2 => ob (gA 1 M2 (o + 1) v1) fun v3 => ob (sA 1 M2 (o + 1) v1 (lOr v3 (lShl 1 a1))) fun M4 => ob (f_J6_checkInvariants o M4) fun u5 => some M4) else (none)
theorem hd_J6_set : yJ6_set.cls = RJ6 ∧ yJ6_set.cls ≠ "java/lang/invoke/MethodHandle" ∧ yJ6_set.cls ≠ "java/lang/invoke/VarHandle" ∧ (parseMethodDescriptor yJ6_set.desc).map (fun d => d.parameters.length) = some 1 := by decide +kernel
theorem wb_J6_set {D : rw_D} {p : Program} {l : Launch} {e : Env} {s : State} {m : MethodId} {args : Array Value} {below : List Frame} {meth : Method} {c : Code} {G : GG} {ad : Nat → Nat} {hp0 : HP} {o : Nat} (ho : BSo D o) (X : CX p s m args meth c cJ6_set 3 RJ6 none G) {M : RM} {a1 : Int}  {out : RM} (hE : f_J6_set o M a1 = some out) {H : Heap} {locs : List Loc} {ls : Array Slot} (hM : RW G D ad hp0 M H locs) (hl : lv_has ls 3 [(0, .ref (ad o)), (1, vI a1)]) : W p l e (rmD 2) s m args below meth c H locs 0 0 (QR below G D ad hp0 args s none out) (F0 m 0 ls []) := by
  unfold f_J6_set at hE
  refine e_iload_n X hl 1 rfl dJ6_set_0 rfl ?_
  refine e_if_ge X (w32 a1) rfl hE dJ6_set_1 rfl (fun hE => ?_) (fun hE => ?_)
  · refine e_iload_n X hl 1 rfl dJ6_set_31 rfl ?_
    obtain ⟨v1, h, hE⟩ := ob_some hE
    refine r_callS1 X hM (rest := []) (met_J6_wordIndex l G ad hp0 o ho M a1 h) (va_cwS 1 X.ht (lw_S q622 q623 q135 q624) rfl rfl rfl hd_J6_wordIndex (cxR (by decide) (by decide))) rfl hl.1 rfl (Nat.le_of_ble_eq_true rfl) dJ6_set_32 ⟨Nat.le_refl _, Nat.le_refl _⟩ (fun H locs hM => ?_)
    refine e_istore_n X hl [(2, vI v1), (0, .ref (ad o)), (1, vI a1)] dJ6_set_35 rfl (by decide) rfl (fun ls hl => ?_)
    refine e_aload_n X hl 1 rfl dJ6_set_36 rfl ?_
    refine e_iload_n X hl 0 rfl dJ6_set_37 rfl ?_
    obtain ⟨M2, h, hE⟩ := ob_some hE
    refine r_callV0 X hM o ho.1 ck_J6 (rest := []) (met_J6_expandTo l G ad hp0 o ho M v1 h) (cwV 1 X.ht (lw_V q2290 q2292 qs51 q135 q2293) rfl rfl rfl hd_J6_expandTo (cxR (by decide) (by decide))) rfl hl.1 rfl (Nat.le_of_ble_eq_true rfl) dJ6_set_38 ⟨Nat.le_refl _, Nat.le_refl _⟩ (fun H locs hM => ?_)
    refine e_aload_n X hl 1 rfl dJ6_set_41 rfl ?_
    refine r_getR X hM ck_J6 o 0 ho.1 rfl (by decide) q625 rfl dJ6_set_42 ?_
    refine e_iload_n X hl 0 rfl dJ6_set_45 rfl ?_
    refine e_dup2 X dJ6_set_46 rfl rfl ?_
    refine r_lald X hM (o + 1) ho.2 (Nat.le_of_ble_eq_true rfl) hE dJ6_set_47 (fun v3 hE => ?_)
    refine e_lconst X 1 dJ6_set_48 (by decide) ?_
    refine e_iload_n X hl 2 rfl dJ6_set_49 rfl ?_
    refine e_lshl X dJ6_set_50 ?_
    refine e_lor X dJ6_set_51 ?_
    refine r_last X hM (o + 1) ho.2 (Nat.le_of_ble_eq_true rfl) hE dJ6_set_52 (fun M4 hE H locs hM => ?_)
    refine e_aload_n X hl 1 rfl dJ6_set_53 rfl ?_
    obtain ⟨u5, h, hE⟩ := ob_some hE
    refine r_callV0 X hM o ho.1 ck_J6 (rest := []) (met_J6_checkInvariants l G ad hp0 o ho M4 h) (cwV 0 X.ht (lw_V q1638 q1640 qs24 q135 q1641) rfl rfl rfl hd_J6_checkInvariants (cxR (by decide) (by decide))) rfl hl.1 rfl (Nat.le_of_ble_eq_true rfl) dJ6_set_54 ⟨Nat.le_refl _, Nat.le_refl _⟩ (fun H locs hM => ?_)
    cases hE
    exact r_vret X hM dJ6_set_57
  · cases hE
theorem met_J6_set (l : Launch) (G : GG) (ad : Nat → Nat) (hp0 : HP) {D : rw_D} (o : Nat) (ho : BSo D o) (M : RM) (a1 : Int)  {out : RM} (hE : f_J6_set o M a1 = some out) : MR l yJ6_set (ws_ yJ6_set cJ6_set 3 none) 2 G D ad hp0 [.ref (ad o), vI a1] M none out :=
  MR.of (by decide +kernel) (Nat.le_of_ble_eq_true rfl) rfl (fun p e s m below meth c ls X hM hl => wb_J6_set ho X hE hM hl)
def f_J6_recalculateWordsInUse_L7 (o : Nat) (N : Nat) (M : RM)  (k : Int → Option RM) : Nat → Int → Option RM
  | 0, _ => none
  | n + 1, x1 =>
    if w32 x1 < 0 then (k x1) else (ob (gA 1 M (o + 1) x1) fun v2 => if w64 v2 = 0 then (jn (x1 + (-1)) fun v3 => f_J6_recalculateWordsInUse_L7 o N M  k n v3) else (k x1))
def f_J6_recalculateWordsInUse (o : Nat) (N : Nat) (M : RM)  : Option RM :=
  jn ((M o 1) - 1) fun v1 => f_J6_recalculateWordsInUse_L7 o N M  (fun (v4 : Int) => jn (up2 M o 1 (v4 + 1)) fun M5 => some M5) N v1
theorem hd_J6_recalculateWordsInUse : yJ6_recalculateWordsInUse.cls = RJ6 ∧ yJ6_recalculateWordsInUse.cls ≠ "java/lang/invoke/MethodHandle" ∧ yJ6_recalculateWordsInUse.cls ≠ "java/lang/invoke/VarHandle" ∧ (parseMethodDescriptor yJ6_recalculateWordsInUse.desc).map (fun d => d.parameters.length) = some 0 := by decide +kernel
theorem wl_J6_recalculateWordsInUse_7 {D : rw_D} {p : Program} {l : Launch} {e : Env} {s : State} {m : MethodId} {args : Array Value} {below : List Frame} {meth : Method} {c : Code} {G : GG} {ad : Nat → Nat} {hp0 : HP} {o : Nat} (ho : BSo D o) (X : CX p s m args meth c cJ6_recalculateWordsInUse 2 RJ6 none G) {N : Nat} {M : RM}  {k : Int → Option RM} {out : RM} : ∀ (n : Nat) (x1 : Int) (H : Heap) (locs : List Loc) (ls : Array Slot) (hE : f_J6_recalculateWordsInUse_L7 o N M  k n x1 = some out) (hM : RW G D ad hp0 M H locs) (hl : lv_has ls 2 [(0, .ref (ad o)), (1, vI x1)]) (hk : ∀ (x1 : Int) (H : Heap) (locs : List Loc) (ls : Array Slot), RW G D ad hp0 M H locs → lv_has ls 2 [(0, .ref (ad o)), (1, vI x1)] → k x1 = some out → W p l e (rmD 0) s m args below meth c H locs 0 0 (QR below G D ad hp0 args s none out) (F0 m 31 ls [])), W p l e (rmD 0) s m args below meth c H locs 0 0 (QR below G D ad hp0 args s none out) (F0 m 7 ls []) := by
  intro n
  induction n with
  | zero =>
    intro x1 H locs ls hE hM hl hk
    unfold f_J6_recalculateWordsInUse_L7 at hE
    cases hE
  | succ n ih =>
    intro x1 H locs ls hE hM hl hk
    unfold f_J6_recalculateWordsInUse_L7 at hE
    refine e_iload_n X hl 1 rfl dJ6_recalculateWordsInUse_7 rfl ?_
    refine e_if_lt X (w32 x1) rfl hE dJ6_recalculateWordsInUse_8 rfl (fun hE => ?_) (fun hE => ?_)
    · exact hk x1 _ _ _ hM (lv_sub hl [0, 1] rfl) hE
    · refine e_aload_n X hl 0 rfl dJ6_recalculateWordsInUse_11 rfl ?_
      refine r_getR X hM ck_J6 o 0 ho.1 rfl (by decide) q625 rfl dJ6_recalculateWordsInUse_12 ?_
      refine e_iload_n X hl 1 rfl dJ6_recalculateWordsInUse_15 rfl ?_
      refine r_lald X hM (o + 1) ho.2 (Nat.le_of_ble_eq_true rfl) hE dJ6_recalculateWordsInUse_16 (fun v2 hE => ?_)
      refine e_lconst X 0 dJ6_recalculateWordsInUse_17 (by decide) ?_
      refine e_lcmp_eq X (w64 v2) 0 rfl (by decide) hE dJ6_recalculateWordsInUse_18 dJ6_recalculateWordsInUse_19 rfl (fun hE => ?_) (fun hE => ?_)
      · refine e_iinc X hl 1 hE (fun v3 => [(1, vI v3), (0, .ref (ad o))]) rfl dJ6_recalculateWordsInUse_25 (by decide) (fun _ => rfl) (fun v3 hE ls hl => ?_)
        refine e_goto X dJ6_recalculateWordsInUse_28 rfl ?_
        exact ih v3 _ _ _ hE hM (lv_sub hl [1, 0] rfl) hk
      · refine e_goto X dJ6_recalculateWordsInUse_22 rfl ?_
        exact hk x1 _ _ _ hM (lv_sub hl [0, 1] rfl) hE
theorem wb_J6_recalculateWordsInUse {D : rw_D} {p : Program} {l : Launch} {e : Env} {s : State} {m : MethodId} {args : Array Value} {below : List Frame} {meth : Method} {c : Code} {G : GG} {ad : Nat → Nat} {hp0 : HP} {o : Nat} (ho : BSo D o) (X : CX p s m args meth c cJ6_recalculateWordsInUse 2 RJ6 none G) {N : Nat} {M : RM}  {out : RM} (hE : f_J6_recalculateWordsInUse o N M = some out) {H : Heap} {locs : List Loc} {ls : Array Slot} (hM : RW G D ad hp0 M H locs) (hl : lv_has ls 2 [(0, .ref (ad o))]) : W p l e (rmD 0) s m args below meth c H locs 0 0 (QR below G D ad hp0 args s none out) (F0 m 0 ls []) := by
  unfold f_J6_recalculateWordsInUse at hE
  refine e_aload_n X hl 0 rfl dJ6_recalculateWordsInUse_0 rfl ?_
  refine r_getI X hM ck_J6 o 1 ho.1 rfl (by decide) q626 rfl dJ6_recalculateWordsInUse_1 ?_
  refine e_iconst X dJ6_recalculateWordsInUse_4 ?_
  refine e_isub X dJ6_recalculateWordsInUse_5 ?_
  refine e_top hE (fun v1 hE => ?_)
  refine e_istore_n X hl [(1, vI v1), (0, .ref (ad o))] dJ6_recalculateWordsInUse_6 rfl (by decide) rfl (fun ls hl => ?_)
  refine wl_J6_recalculateWordsInUse_7 ho X _ v1 _ _ _ hE hM (lv_sub hl [1, 0] rfl) (fun v4 H locs ls hM hl hE => ?_)
  refine e_aload_n X hl 0 rfl dJ6_recalculateWordsInUse_31 rfl ?_
  refine e_iload_n X hl 1 rfl dJ6_recalculateWordsInUse_32 rfl ?_
  refine e_iconst X dJ6_recalculateWordsInUse_33 ?_
  refine e_iadd X dJ6_recalculateWordsInUse_34 ?_
  refine r_putI X hM ck_J6 o 1 ho.1 rfl (by decide) q626 rfl rfl hE rfl dJ6_recalculateWordsInUse_35 (fun M5 hE H locs hM => ?_)
  cases hE
  exact r_vret X hM dJ6_recalculateWordsInUse_38
theorem met_J6_recalculateWordsInUse (l : Launch) (G : GG) (ad : Nat → Nat) (hp0 : HP) {D : rw_D} (o : Nat) (ho : BSo D o) {N : Nat} (M : RM)   {out : RM} (hE : f_J6_recalculateWordsInUse o N M = some out) : MR l yJ6_recalculateWordsInUse (ws_ yJ6_recalculateWordsInUse cJ6_recalculateWordsInUse 2 none) 0 G D ad hp0 [.ref (ad o)] M none out :=
  MR.of (by decide +kernel) (Nat.le_of_ble_eq_true rfl) rfl (fun p e s m below meth c ls X hM hl => wb_J6_recalculateWordsInUse ho X hE hM hl)
def f_J6_clear_2 (o : Nat) (N : Nat) (M : RM) (a1 : Int) : Option RM :=
  if 0 ≤ w32 a1 then (ob (f_J6_wordIndex o M a1) fun v1 => if w32 v1 < w32 (M o 1) then (ob (gA 1 M (o + 1) v1) fun v2 => ob (sA 1 M (o + 1) v1 (lAnd v2 (lXor (lShl 1 a1) (-1)))) fun M3 => ob (f_J6_recalculateWordsInUse o N M3) fun M4 => ob (f_J6_checkInvariants o M4) fun u5 => some M4) else (some M)) else (none)
theorem hd_J6_clear_2 : yJ6_clear_2.cls = RJ6 ∧ yJ6_clear_2.cls ≠ "java/lang/invoke/MethodHandle" ∧ yJ6_clear_2.cls ≠ "java/lang/invoke/VarHandle" ∧ (parseMethodDescriptor yJ6_clear_2.desc).map (fun d => d.parameters.length) = some 1 := by decide +kernel
theorem wb_J6_clear_2 {D : rw_D} {p : Program} {l : Launch} {e : Env} {s : State} {m : MethodId} {args : Array Value} {below : List Frame} {meth : Method} {c : Code} {G : GG} {ad : Nat → Nat} {hp0 : HP} {o : Nat} (ho : BSo D o) (X : CX p s m args meth c cJ6_clear_2 3 RJ6 none G) {N : Nat} {M : RM} {a1 : Int}  {out : RM} (hE : f_J6_clear_2 o N M a1 = some out) {H : Heap} {locs : List Loc} {ls : Array Slot} (hM : RW G D ad hp0 M H locs) (hl : lv_has ls 3 [(0, .ref (ad o)), (1, vI a1)]) : W p l e (rmD 1) s m args below meth c H locs 0 0 (QR below G D ad hp0 args s none out) (F0 m 0 ls []) := by
  unfold f_J6_clear_2 at hE
  refine e_iload_n X hl 1 rfl dJ6_clear_2_0 rfl ?_
  refine e_if_ge X (w32 a1) rfl hE dJ6_clear_2_1 rfl (fun hE => ?_) (fun hE => ?_)
  · refine e_iload_n X hl 1 rfl dJ6_clear_2_31 rfl ?_
    obtain ⟨v1, h, hE⟩ := ob_some hE
    refine r_callS1 X hM (rest := []) (met_J6_wordIndex l G ad hp0 o ho M a1 h) (va_cwS 1 X.ht (lw_S q622 q623 q135 q624) rfl rfl rfl hd_J6_wordIndex (cxR (by decide) (by decide))) rfl hl.1 rfl (Nat.le_of_ble_eq_true rfl) dJ6_clear_2_32 ⟨Nat.le_refl _, Nat.le_refl _⟩ (fun H locs hM => ?_)
    refine e_istore_n X hl [(2, vI v1), (0, .ref (ad o)), (1, vI a1)] dJ6_clear_2_35 rfl (by decide) rfl (fun ls hl => ?_)
    refine e_iload_n X hl 0 rfl dJ6_clear_2_36 rfl ?_
    refine e_aload_n X hl 1 rfl dJ6_clear_2_37 rfl ?_
    refine r_getI X hM ck_J6 o 1 ho.1 rfl (by decide) q626 rfl dJ6_clear_2_38 ?_
    refine e_icmp_lt X (w32 v1) (w32 (M o 1)) rfl rfl hE dJ6_clear_2_41 rfl (fun hE => ?_) (fun hE => ?_)
    · refine e_aload_n X hl 1 rfl dJ6_clear_2_45 rfl ?_
      refine r_getR X hM ck_J6 o 0 ho.1 rfl (by decide) q625 rfl dJ6_clear_2_46 ?_
      refine e_iload_n X hl 0 rfl dJ6_clear_2_49 rfl ?_
      refine e_dup2 X dJ6_clear_2_50 rfl rfl ?_
      refine r_lald X hM (o + 1) ho.2 (Nat.le_of_ble_eq_true rfl) hE dJ6_clear_2_51 (fun v2 hE => ?_)
      refine e_lconst X 1 dJ6_clear_2_52 (by decide) ?_
      refine e_iload_n X hl 2 rfl dJ6_clear_2_53 rfl ?_
      refine e_lshl X dJ6_clear_2_54 ?_
      refine e_ldc2 X (-1) q2842 (by decide) dJ6_clear_2_55 ?_
      refine e_lxor X dJ6_clear_2_58 ?_
      refine e_land X dJ6_clear_2_59 ?_
      refine r_last X hM (o + 1) ho.2 (Nat.le_of_ble_eq_true rfl) hE dJ6_clear_2_60 (fun M3 hE H locs hM => ?_)
      refine e_aload_n X hl 1 rfl dJ6_clear_2_61 rfl ?_
      obtain ⟨M4, h, hE⟩ := ob_some hE
      refine r_callV0 X hM o ho.1 ck_J6 (rest := []) (met_J6_recalculateWordsInUse l G ad hp0 o ho M3 h) (cwV 0 X.ht (lw_V q2843 q2845 qs65 q135 q2846) rfl rfl rfl hd_J6_recalculateWordsInUse (cxR (by decide) (by decide))) rfl hl.1 rfl (Nat.le_of_ble_eq_true rfl) dJ6_clear_2_62 ⟨Nat.le_refl _, Nat.le_refl _⟩ (fun H locs hM => ?_)
      refine e_aload_n X hl 1 rfl dJ6_clear_2_65 rfl ?_
      obtain ⟨u5, h, hE⟩ := ob_some hE
      refine r_callV0 X hM o ho.1 ck_J6 (rest := []) (met_J6_checkInvariants l G ad hp0 o ho M4 h) (cwV 0 X.ht (lw_V q1638 q1640 qs24 q135 q1641) rfl rfl rfl hd_J6_checkInvariants (cxR (by decide) (by decide))) rfl hl.1 rfl (Nat.le_of_ble_eq_true rfl) dJ6_clear_2_66 ⟨Nat.le_refl _, Nat.le_refl _⟩ (fun H locs hM => ?_)
      cases hE
      exact r_vret X hM dJ6_clear_2_69
    · cases hE
      exact r_vret X hM dJ6_clear_2_44
  · cases hE
theorem met_J6_clear_2 (l : Launch) (G : GG) (ad : Nat → Nat) (hp0 : HP) {D : rw_D} (o : Nat) (ho : BSo D o) {N : Nat} (M : RM) (a1 : Int)  {out : RM} (hE : f_J6_clear_2 o N M a1 = some out) : MR l yJ6_clear_2 (ws_ yJ6_clear_2 cJ6_clear_2 3 none) 1 G D ad hp0 [.ref (ad o), vI a1] M none out :=
  MR.of (by decide +kernel) (Nat.le_of_ble_eq_true rfl) rfl (fun p e s m below meth c ls X hM hl => wb_J6_clear_2 ho X hE hM hl)
def f_X1_adds (b : Nat) (M : RM) (a1 : Int) (a2 : Int) (a3 : Int) (a4 : Int) (a5 : Int) : Option RM :=
  ob (sA 25 M (b + 0) (M (b + 20) 13) a1) fun M1 => ob (sA 25 M1 (b + 1) (M1 (b + 20) 13) a2) fun M2 => ob (sA 25 M2 (b + 2) (M2 (b + 20) 13) a3) fun M3 => ob (sA 25 M3 (b + 3) (M3 (b + 20) 13) a4) fun M4 => ob (sA 25 M4 (b + 4) (M4 (b + 20) 13) a5) fun M5 => jn (up2 M5 (b + 20) 13 ((M5 (b + 20) 13) + 1)) fun M6 => some M6
theorem hd_X1_adds : yX1_adds.cls = RX1 ∧ yX1_adds.cls ≠ "java/lang/invoke/MethodHandle" ∧ yX1_adds.cls ≠ "java/lang/invoke/VarHandle" ∧ (parseMethodDescriptor yX1_adds.desc).map (fun d => d.parameters.length) = some 5 := by decide +kernel
theorem wb_X1_adds {D : rw_D} {p : Program} {l : Launch} {e : Env} {s : State} {m : MethodId} {args : Array Value} {below : List Frame} {meth : Method} {c : Code} {G : GG} {ad : Nat → Nat} {hp0 : HP} {b : Nat} (hb : NB D b) (X : CX p s m args meth c cX1_adds 7 RX1 none G) {M : RM} {a1 : Int} {a2 : Int} {a3 : Int} {a4 : Int} {a5 : Int}  {out : RM} (hE : f_X1_adds b M a1 a2 a3 a4 a5 = some out) {H : Heap} {locs : List Loc} {ls : Array Slot} (hM : RW G D ad hp0 M H locs) (hl : lv_has ls 7 [(0, .ref (ad (b + 20))), (1, vI a1), (2, vI a2), (3, vI a3), (4, vI a4), (5, vL a5)]) : W p l e (rmD 0) s m args below meth c H locs 0 0 (QR below G D ad hp0 args s none out) (F0 m 0 ls []) := by
  unfold f_X1_adds at hE
  refine e_aload_n X hl 0 rfl dX1_adds_0 rfl ?_
  refine r_getR X hM ck_X1 (b + 20) 0 (dn hb 20 rfl) rfl (by decide) q662 rfl dX1_adds_1 ?_
  refine e_aload_n X hl 0 rfl dX1_adds_4 rfl ?_
  refine r_getI X hM ck_X1 (b + 20) 13 (dn hb 20 rfl) rfl (by decide) q684 rfl dX1_adds_5 ?_
  refine e_iload_n X hl 1 rfl dX1_adds_8 rfl ?_
  refine r_iast X hM (b + 0) (dn hb 0 rfl) (Nat.le_of_ble_eq_true rfl) hE dX1_adds_9 (fun M1 hE H locs hM => ?_)
  refine e_aload_n X hl 0 rfl dX1_adds_10 rfl ?_
  refine r_getR X hM ck_X1 (b + 20) 1 (dn hb 20 rfl) rfl (by decide) q664 rfl dX1_adds_11 ?_
  refine e_aload_n X hl 0 rfl dX1_adds_14 rfl ?_
  refine r_getI X hM ck_X1 (b + 20) 13 (dn hb 20 rfl) rfl (by decide) q684 rfl dX1_adds_15 ?_
  refine e_iload_n X hl 2 rfl dX1_adds_18 rfl ?_
  refine r_iast X hM (b + 1) (dn hb 1 rfl) (Nat.le_of_ble_eq_true rfl) hE dX1_adds_19 (fun M2 hE H locs hM => ?_)
  refine e_aload_n X hl 0 rfl dX1_adds_20 rfl ?_
  refine r_getR X hM ck_X1 (b + 20) 2 (dn hb 20 rfl) rfl (by decide) q666 rfl dX1_adds_21 ?_
  refine e_aload_n X hl 0 rfl dX1_adds_24 rfl ?_
  refine r_getI X hM ck_X1 (b + 20) 13 (dn hb 20 rfl) rfl (by decide) q684 rfl dX1_adds_25 ?_
  refine e_iload_n X hl 3 rfl dX1_adds_28 rfl ?_
  refine r_iast X hM (b + 2) (dn hb 2 rfl) (Nat.le_of_ble_eq_true rfl) hE dX1_adds_29 (fun M3 hE H locs hM => ?_)
  refine e_aload_n X hl 0 rfl dX1_adds_30 rfl ?_
  refine r_getR X hM ck_X1 (b + 20) 3 (dn hb 20 rfl) rfl (by decide) q668 rfl dX1_adds_31 ?_
  refine e_aload_n X hl 0 rfl dX1_adds_34 rfl ?_
  refine r_getI X hM ck_X1 (b + 20) 13 (dn hb 20 rfl) rfl (by decide) q684 rfl dX1_adds_35 ?_
  refine e_iload X hl 4 rfl dX1_adds_38 ?_
  refine r_iast X hM (b + 3) (dn hb 3 rfl) (Nat.le_of_ble_eq_true rfl) hE dX1_adds_40 (fun M4 hE H locs hM => ?_)
  refine e_aload_n X hl 0 rfl dX1_adds_41 rfl ?_
  refine r_getR X hM ck_X1 (b + 20) 4 (dn hb 20 rfl) rfl (by decide) q670 rfl dX1_adds_42 ?_
  refine e_aload_n X hl 0 rfl dX1_adds_45 rfl ?_
  refine r_getI X hM ck_X1 (b + 20) 13 (dn hb 20 rfl) rfl (by decide) q684 rfl dX1_adds_46 ?_
  refine e_lload X hl 5 rfl dX1_adds_49 ?_
  refine r_last X hM (b + 4) (dn hb 4 rfl) (Nat.le_of_ble_eq_true rfl) hE dX1_adds_51 (fun M5 hE H locs hM => ?_)
  refine e_aload_n X hl 0 rfl dX1_adds_52 rfl ?_
  refine e_dup X dX1_adds_53 rfl ?_
  refine r_getI X hM ck_X1 (b + 20) 13 (dn hb 20 rfl) rfl (by decide) q684 rfl dX1_adds_54 ?_
  refine e_iconst X dX1_adds_57 ?_
  refine e_iadd X dX1_adds_58 ?_
  refine r_putI X hM ck_X1 (b + 20) 13 (dn hb 20 rfl) rfl (by decide) q684 rfl rfl hE rfl dX1_adds_59 (fun M6 hE H locs hM => ?_)
  cases hE
  exact r_vret X hM dX1_adds_62
theorem met_X1_adds (l : Launch) (G : GG) (ad : Nat → Nat) (hp0 : HP) {D : rw_D} (b : Nat) (hb : NB D b) (M : RM) (a1 : Int) (a2 : Int) (a3 : Int) (a4 : Int) (a5 : Int)  {out : RM} (hE : f_X1_adds b M a1 a2 a3 a4 a5 = some out) : MR l yX1_adds (ws_ yX1_adds cX1_adds 7 none) 0 G D ad hp0 [.ref (ad (b + 20)), vI a1, vI a2, vI a3, vI a4, vL a5] M none out :=
  MR.of (by decide +kernel) (Nat.le_of_ble_eq_true rfl) rfl (fun p e s m below meth c ls X hM hl => wb_X1_adds hb X hE hM hl)
def f_X1_isBalanced_L4 (b : Nat) (N : Nat) (M0 : RM)  (k : Int → Int → Option Int) : Nat → Int → Int → Option Int
  | 0, _, _ => none
  | n + 1, x1, x2 =>
    if w32 (M0 (b + 20) 12) ≤ w32 x2 then (k x1 x2) else (ob (gA 8 M0 (b + 6) x2) fun v1 => jn (x1 + v1) fun v2 => jn (x2 + 1) fun v3 => f_X1_isBalanced_L4 b N M0  k n v2 v3)
def f_X1_isBalanced (b : Nat) (N : Nat) (M0 : RM)  : Option Int :=
  f_X1_isBalanced_L4 b N M0  (fun (v4 : Int) (v5 : Int) => if ¬ w32 v4 = 0 then (some 0) else (some 1)) N 0 0
theorem hd_X1_isBalanced : yX1_isBalanced.cls = RX1 ∧ yX1_isBalanced.cls ≠ "java/lang/invoke/MethodHandle" ∧ yX1_isBalanced.cls ≠ "java/lang/invoke/VarHandle" ∧ (parseMethodDescriptor yX1_isBalanced.desc).map (fun d => d.parameters.length) = some 0 := by decide +kernel
theorem wl_X1_isBalanced_4 {D : rw_D} {p : Program} {l : Launch} {e : Env} {s : State} {m : MethodId} {args : Array Value} {below : List Frame} {meth : Method} {c : Code} {G : GG} {ad : Nat → Nat} {hp0 : HP} {M0 : RM} {b : Nat} (hb : NB D b) (X : CX p s m args meth c cX1_isBalanced 3 RX1 (some .boolean) G) {N : Nat}  {k : Int → Int → Option Int} {out : Int} : ∀ (n : Nat) (x1 : Int) (x2 : Int) (H : Heap) (locs : List Loc) (ls : Array Slot) (hE : f_X1_isBalanced_L4 b N M0  k n x1 x2 = some out) (hM : RW G D ad hp0 M0 H locs) (hl : lv_has ls 3 [(0, .ref (ad (b + 20))), (1, vI x1), (2, vI x2)]) (hk : ∀ (x1 : Int) (x2 : Int) (H : Heap) (locs : List Loc) (ls : Array Slot), RW G D ad hp0 M0 H locs → lv_has ls 3 [(0, .ref (ad (b + 20))), (1, vI x1), (2, vI x2)] → k x1 x2 = some out → W p l e (rmD 0) s m args below meth c H locs 0 0 (QR below G D ad hp0 args s (some (vI out)) M0) (F0 m 27 ls [])), W p l e (rmD 0) s m args below meth c H locs 0 0 (QR below G D ad hp0 args s (some (vI out)) M0) (F0 m 4 ls []) := by
  intro n
  induction n with
  | zero =>
    intro x1 x2 H locs ls hE hM hl hk
    unfold f_X1_isBalanced_L4 at hE
    cases hE
  | succ n ih =>
    intro x1 x2 H locs ls hE hM hl hk
    unfold f_X1_isBalanced_L4 at hE
    refine e_iload_n X hl 2 rfl dX1_isBalanced_4 rfl ?_
    refine e_aload_n X hl 0 rfl dX1_isBalanced_5 rfl ?_
    refine r_getI X hM ck_X1 (b + 20) 12 (dn hb 20 rfl) rfl (by decide) q683 rfl dX1_isBalanced_6 ?_
    refine e_icmp_ge X (w32 x2) (w32 (M0 (b + 20) 12)) rfl rfl hE dX1_isBalanced_9 rfl (fun hE => ?_) (fun hE => ?_)
    · exact hk x1 x2 _ _ _ hM (lv_sub hl [0, 1, 2] rfl) hE
    · refine e_iload_n X hl 1 rfl dX1_isBalanced_12 rfl ?_
      refine e_aload_n X hl 0 rfl dX1_isBalanced_13 rfl ?_
      refine r_getR X hM ck_X1 (b + 20) 6 (dn hb 20 rfl) rfl (by decide) q674 rfl dX1_isBalanced_14 ?_
      refine e_iload_n X hl 2 rfl dX1_isBalanced_17 rfl ?_
      refine r_iald X hM (b + 6) (dn hb 6 rfl) (Nat.le_of_ble_eq_true rfl) hE dX1_isBalanced_18 (fun v1 hE => ?_)
      refine e_iadd X dX1_isBalanced_19 ?_
      refine e_top hE (fun v2 hE => ?_)
      refine e_istore_n X hl [(1, vI v2), (0, .ref (ad (b + 20))), (2, vI x2)] dX1_isBalanced_20 rfl (by decide) rfl (fun ls hl => ?_)
      refine e_iinc X hl 2 hE (fun v3 => [(2, vI v3), (1, vI v2), (0, .ref (ad (b + 20)))]) rfl dX1_isBalanced_21 (by decide) (fun _ => rfl) (fun v3 hE ls hl => ?_)
      refine e_goto X dX1_isBalanced_24 rfl ?_
      exact ih v2 v3 _ _ _ hE hM (lv_sub hl [2, 1, 0] rfl) hk
theorem wb_X1_isBalanced {D : rw_D} {p : Program} {l : Launch} {e : Env} {s : State} {m : MethodId} {args : Array Value} {below : List Frame} {meth : Method} {c : Code} {G : GG} {ad : Nat → Nat} {hp0 : HP} {M0 : RM} {b : Nat} (hb : NB D b) (X : CX p s m args meth c cX1_isBalanced 3 RX1 (some .boolean) G) {N : Nat}  {out : Int} (hE : f_X1_isBalanced b N M0 = some out) {H : Heap} {locs : List Loc} {ls : Array Slot} (hM : RW G D ad hp0 M0 H locs) (hl : lv_has ls 3 [(0, .ref (ad (b + 20)))]) : W p l e (rmD 0) s m args below meth c H locs 0 0 (QR below G D ad hp0 args s (some (vI out)) M0) (F0 m 0 ls []) := by
  unfold f_X1_isBalanced at hE
  refine e_iconst X dX1_isBalanced_0 ?_
  refine e_istore_n X hl [(1, vI 0), (0, .ref (ad (b + 20)))] dX1_isBalanced_1 rfl (by decide) rfl (fun ls hl => ?_)
  refine e_iconst X dX1_isBalanced_2 ?_
  refine e_istore_n X hl [(2, vI 0), (1, vI 0), (0, .ref (ad (b + 20)))] dX1_isBalanced_3 rfl (by decide) rfl (fun ls hl => ?_)
  refine wl_X1_isBalanced_4 hb X _ 0 0 _ _ _ hE hM (lv_sub hl [2, 1, 0] rfl) (fun v4 v5 H locs ls hM hl hE => ?_)
  refine e_iload_n X hl 1 rfl dX1_isBalanced_27 rfl ?_
  refine e_if_ne X (w32 v4) rfl hE dX1_isBalanced_28 rfl (fun hE => ?_) (fun hE => ?_)
  · refine e_iconst X dX1_isBalanced_35 ?_
    cases hE
    exact r_zret (x := 0) X hM rfl dX1_isBalanced_36
  · refine e_iconst X dX1_isBalanced_31 ?_
    refine e_goto X dX1_isBalanced_32 rfl ?_
    cases hE
    exact r_zret (x := 1) X hM rfl dX1_isBalanced_36
theorem met_X1_isBalanced (l : Launch) (G : GG) (ad : Nat → Nat) (hp0 : HP) {D : rw_D} (b : Nat) (hb : NB D b) {N : Nat} (M0 : RM)   {out : Int} (hE : f_X1_isBalanced b N M0 = some out) : MR l yX1_isBalanced (ws_ yX1_isBalanced cX1_isBalanced 3 (some .boolean)) 0 G D ad hp0 [.ref (ad (b + 20))] M0 (some (vI out)) M0 :=
  MR.of (by decide +kernel) (Nat.le_of_ble_eq_true rfl) rfl (fun p e s m below meth c ls X hM hl => wb_X1_isBalanced hb X hE hM hl)
def f_X1_near (b : Nat) (N : Nat) (M : RM) (a1 : Int) (a2 : Int) (a3 : Int) (a4 : Int) : Option RM :=
  ob (gA 8 M (b + 10) a1) fun v1 => ob (dr (b + 21) 8 v1) fun o2 => if ¬ w32 (M o2 4) = 0 then (some M) else (if w32 (M o2 3) = 0 then (jn (fun (M4 : RM) => jn (up2 M4 o2 3 1) fun M5 => jn (up2 M5 o2 1 a2) fun M6 => jn (up2 M6 o2 2 a3) fun M7 => jn (up2 M7 o2 5 a4) fun M8 => ob2 (f_J5_add b N M8 o2) fun v9 M10 => some M10) fun kj3 => if w32 (M o2 3) = 0 then (kj3 M) else (ob2 (f_J5_remove b N M o2) fun v11 M12 => kj3 M12)) else (ob (f_X2_isNearer o2 M a2 a3) fun v13 => if ¬ w32 v13 = 0 then (jn (fun (M15 : RM) => jn (up2 M15 o2 3 1) fun M16 => jn (up2 M16 o2 1 a2) fun M17 => jn (up2 M17 o2 2 a3) fun M18 => jn (up2 M18 o2 5 a4) fun M19 => ob2 (f_J5_add b N M19 o2) fun v20 M21 => some M21) fun kj14 => if w32 (M o2 3) = 0 then (kj14 M) else (ob2 (f_J5_remove b N M o2) fun v22 M23 => kj14 M23)) else (some M)))
theorem hd_X1_near : yX1_near.cls = RX1 ∧ yX1_near.cls ≠ "java/lang/invoke/MethodHandle" ∧ yX1_near.cls ≠ "java/lang/invoke/VarHandle" ∧ (parseMethodDescriptor yX1_near.desc).map (fun d => d.parameters.length) = some 4 := by decide +kernel
theorem wb_X1_near {D : rw_D} {p : Program} {l : Launch} {e : Env} {s : State} {m : MethodId} {args : Array Value} {below : List Frame} {meth : Method} {c : Code} {G : GG} {ad : Nat → Nat} {hp0 : HP} {b : Nat} (hb : NB D b) (X : CX p s m args meth c cX1_near 8 RX1 none G) {N : Nat} {M : RM} {a1 : Int} {a2 : Int} {a3 : Int} {a4 : Int}  {out : RM} (hE : f_X1_near b N M a1 a2 a3 a4 = some out) {H : Heap} {locs : List Loc} {ls : Array Slot} (hM : RW G D ad hp0 M H locs) (hl : lv_has ls 8 [(0, .ref (ad (b + 20))), (1, vI a1), (2, vL a2), (4, vL a3), (6, vI a4)]) : W p l e (rmD 6) s m args below meth c H locs 0 0 (QR below G D ad hp0 args s none out) (F0 m 0 ls []) := by
  unfold f_X1_near at hE
  refine e_aload_n X hl 0 rfl dX1_near_0 rfl ?_
  refine r_getR X hM ck_X1 (b + 20) 10 (dn hb 20 rfl) rfl (by decide) q680 rfl dX1_near_1 ?_
  refine e_iload_n X hl 1 rfl dX1_near_4 rfl ?_
  refine r_aald X hM (b + 10) (dn hb 10 rfl) (fun _ => rfl) (fun _ => rfl) (Nat.le_of_ble_eq_true rfl) hE dX1_near_5 (fun v1 hE => ?_)
  refine e_deref hE (fun o2 ho2 hE => ?_)
  refine e_astore X hl [(7, .ref (ad o2)), (0, .ref (ad (b + 20))), (1, vI a1), (2, vL a2), (4, vL a3), (6, vI a4)] dX1_near_6 (by decide) rfl (fun ls hl => ?_)
  refine e_aload X hl 0 rfl dX1_near_8 ?_
  refine r_getNI X hM ck_X2 o2 4 (dpl hb ho2) rfl (by decide) q647 rfl dX1_near_10 ?_
  refine e_if_ne X (w32 (M o2 4)) rfl hE dX1_near_13 rfl (fun hE => ?_) (fun hE => ?_)
  · cases hE
    exact r_vret X hM dX1_near_35
  · refine e_aload X hl 0 rfl dX1_near_16 ?_
    refine r_getNI X hM ck_X2 o2 3 (dpl hb ho2) rfl (by decide) q646 rfl dX1_near_18 ?_
    refine e_if_eq X (w32 (M o2 3)) rfl hE dX1_near_21 rfl (fun hE => ?_) (fun hE => ?_)
    · refine e_aload X hl 0 rfl dX1_near_36 ?_
      refine r_getNI X hM ck_X2 o2 3 (dpl hb ho2) rfl (by decide) q646 rfl dX1_near_38 ?_
      obtain ⟨kj3, hkj3, hE⟩ := jn_ex hE
      have hjkj3 : ∀ (M4 : RM) (H : Heap) (locs : List Loc) (ls : Array Slot), RW G D ad hp0 M4 H locs → lv_has ls 8 [(0, .ref (ad (b + 20))), (2, vL a2), (4, vL a3), (6, vI a4), (7, .ref (ad o2))] → kj3 M4 = some out → W p l e (rmD 6) s m args below meth c H locs 0 0 (QR below G D ad hp0 args s none out) (F0 m 54 ls []) := by
        intro M4 H locs ls hM hl hE
        subst hkj3
        refine e_aload X hl 4 rfl dX1_near_54 ?_
        refine e_iconst X dX1_near_56 ?_
        refine r_putNZ X hM ck_X2 o2 3 (dpl hb ho2) rfl (by decide) q646 rfl rfl hE (by decide) rfl dX1_near_57 (fun M5 hE H locs hM => ?_)
        refine e_aload X hl 4 rfl dX1_near_60 ?_
        refine e_lload_n X hl 1 rfl dX1_near_62 rfl ?_
        refine r_putNJ X hM ck_X2 o2 1 (dpl hb ho2) rfl (by decide) q643 rfl rfl hE rfl dX1_near_63 (fun M6 hE H locs hM => ?_)
        refine e_aload X hl 4 rfl dX1_near_66 ?_
        refine e_lload X hl 2 rfl dX1_near_68 ?_
        refine r_putNJ X hM ck_X2 o2 2 (dpl hb ho2) rfl (by decide) q645 rfl rfl hE rfl dX1_near_70 (fun M7 hE H locs hM => ?_)
        refine e_aload X hl 4 rfl dX1_near_73 ?_
        refine e_iload X hl 3 rfl dX1_near_75 ?_
        refine r_putNI X hM ck_X2 o2 5 (dpl hb ho2) rfl (by decide) q648 rfl rfl hE rfl dX1_near_77 (fun M8 hE H locs hM => ?_)
        refine e_aload_n X hl 0 rfl dX1_near_80 rfl ?_
        refine r_getR X hM ck_X1 (b + 20) 11 (dn hb 20 rfl) rfl (by decide) q681 rfl dX1_near_81 ?_
        refine e_aload X hl 4 rfl dX1_near_84 ?_
        obtain ⟨v9, M10, h, hE⟩ := ob2_some hE
        refine r_callV1 X hM (b + 11) (dn hb 11 rfl) ck_J5 (rest := []) (met_J5_add l G ad hp0 b hb M8 o2 (dpl hb ho2) h) (cwV 1 X.ht (lw_V q2153 q2154 q2155 q134 q2156) rfl rfl rfl hd_J5_add (cxR (by decide) (by decide))) rfl hl.1 rfl (Nat.le_of_ble_eq_true rfl) dX1_near_86 ⟨Nat.le_refl _, Nat.le_refl _⟩ (fun H locs hM => ?_)
        refine e_pop X dX1_near_89 rfl ?_
        cases hE
        exact r_vret X hM dX1_near_90
      refine e_if_eq X (w32 (M o2 3)) rfl hE dX1_near_41 rfl (fun hE => ?_) (fun hE => ?_)
      · exact hjkj3 M _ _ _ hM (lv_sub hl [1, 3, 4, 5, 0] rfl) hE
      · refine e_aload_n X hl 1 rfl dX1_near_44 rfl ?_
        refine r_getR X hM ck_X1 (b + 20) 11 (dn hb 20 rfl) rfl (by decide) q681 rfl dX1_near_45 ?_
        refine e_aload X hl 0 rfl dX1_near_48 ?_
        obtain ⟨v11, M12, h, hE⟩ := ob2_some hE
        refine r_callV1 X hM (b + 11) (dn hb 11 rfl) ck_J5 (rest := []) (met_J5_remove l G ad hp0 b hb M o2 (dpl hb ho2) h) (cwV 1 X.ht (lw_V q2111 q2112 q2113 q134 q2114) rfl rfl rfl hd_J5_remove (cxR (by decide) (by decide))) rfl hl.1 rfl (Nat.le_of_ble_eq_true rfl) dX1_near_50 ⟨Nat.le_refl _, Nat.le_refl _⟩ (fun H locs hM => ?_)
        refine e_pop X dX1_near_53 rfl ?_
        exact hjkj3 M12 _ _ _ hM (lv_sub hl [1, 3, 4, 5, 0] rfl) hE
    · refine e_aload X hl 0 rfl dX1_near_24 ?_
      refine e_lload_n X hl 3 rfl dX1_near_26 rfl ?_
      refine e_lload X hl 4 rfl dX1_near_27 ?_
      obtain ⟨v13, h, hE⟩ := ob_some hE
      refine r_callV1 X hM o2 (dpl hb ho2) ck_X2 (rest := []) (met_X2_isNearer l G ad hp0 o2 (dpl hb ho2) M a2 a3 h) (cwV 2 X.ht (lw_V q2107 q2108 q2109 q152 q2110) rfl rfl rfl hd_X2_isNearer (cxR (by decide) (by decide))) rfl hl.1 rfl (Nat.le_of_ble_eq_true rfl) dX1_near_29 ⟨Nat.le_refl _, Nat.le_refl _⟩ (fun H locs hM => ?_)
      refine e_if_ne X (w32 v13) rfl hE dX1_near_32 rfl (fun hE => ?_) (fun hE => ?_)
      · refine e_aload X hl 0 rfl dX1_near_36 ?_
        refine r_getNI X hM ck_X2 o2 3 (dpl hb ho2) rfl (by decide) q646 rfl dX1_near_38 ?_
        obtain ⟨kj14, hkj14, hE⟩ := jn_ex hE
        have hjkj14 : ∀ (M15 : RM) (H : Heap) (locs : List Loc) (ls : Array Slot), RW G D ad hp0 M15 H locs → lv_has ls 8 [(0, .ref (ad (b + 20))), (2, vL a2), (4, vL a3), (6, vI a4), (7, .ref (ad o2))] → kj14 M15 = some out → W p l e (rmD 6) s m args below meth c H locs 0 0 (QR below G D ad hp0 args s none out) (F0 m 54 ls []) := by
          intro M15 H locs ls hM hl hE
          subst hkj14
          refine e_aload X hl 4 rfl dX1_near_54 ?_
          refine e_iconst X dX1_near_56 ?_
          refine r_putNZ X hM ck_X2 o2 3 (dpl hb ho2) rfl (by decide) q646 rfl rfl hE (by decide) rfl dX1_near_57 (fun M16 hE H locs hM => ?_)
          refine e_aload X hl 4 rfl dX1_near_60 ?_
          refine e_lload_n X hl 1 rfl dX1_near_62 rfl ?_
          refine r_putNJ X hM ck_X2 o2 1 (dpl hb ho2) rfl (by decide) q643 rfl rfl hE rfl dX1_near_63 (fun M17 hE H locs hM => ?_)
          refine e_aload X hl 4 rfl dX1_near_66 ?_
          refine e_lload X hl 2 rfl dX1_near_68 ?_
          refine r_putNJ X hM ck_X2 o2 2 (dpl hb ho2) rfl (by decide) q645 rfl rfl hE rfl dX1_near_70 (fun M18 hE H locs hM => ?_)
          refine e_aload X hl 4 rfl dX1_near_73 ?_
          refine e_iload X hl 3 rfl dX1_near_75 ?_
          refine r_putNI X hM ck_X2 o2 5 (dpl hb ho2) rfl (by decide) q648 rfl rfl hE rfl dX1_near_77 (fun M19 hE H locs hM => ?_)
          refine e_aload_n X hl 0 rfl dX1_near_80 rfl ?_
          refine r_getR X hM ck_X1 (b + 20) 11 (dn hb 20 rfl) rfl (by decide) q681 rfl dX1_near_81 ?_
          refine e_aload X hl 4 rfl dX1_near_84 ?_
          obtain ⟨v20, M21, h, hE⟩ := ob2_some hE
          refine r_callV1 X hM (b + 11) (dn hb 11 rfl) ck_J5 (rest := []) (met_J5_add l G ad hp0 b hb M19 o2 (dpl hb ho2) h) (cwV 1 X.ht (lw_V q2153 q2154 q2155 q134 q2156) rfl rfl rfl hd_J5_add (cxR (by decide) (by decide))) rfl hl.1 rfl (Nat.le_of_ble_eq_true rfl) dX1_near_86 ⟨Nat.le_refl _, Nat.le_refl _⟩ (fun H locs hM => ?_)
          refine e_pop X dX1_near_89 rfl ?_
          cases hE
          exact r_vret X hM dX1_near_90
        refine e_if_eq X (w32 (M o2 3)) rfl hE dX1_near_41 rfl (fun hE => ?_) (fun hE => ?_)
        · exact hjkj14 M _ _ _ hM (lv_sub hl [1, 3, 4, 5, 0] rfl) hE
        · refine e_aload_n X hl 1 rfl dX1_near_44 rfl ?_
          refine r_getR X hM ck_X1 (b + 20) 11 (dn hb 20 rfl) rfl (by decide) q681 rfl dX1_near_45 ?_
          refine e_aload X hl 0 rfl dX1_near_48 ?_
          obtain ⟨v22, M23, h, hE⟩ := ob2_some hE
          refine r_callV1 X hM (b + 11) (dn hb 11 rfl) ck_J5 (rest := []) (met_J5_remove l G ad hp0 b hb M o2 (dpl hb ho2) h) (cwV 1 X.ht (lw_V q2111 q2112 q2113 q134 q2114) rfl rfl rfl hd_J5_remove (cxR (by decide) (by decide))) rfl hl.1 rfl (Nat.le_of_ble_eq_true rfl) dX1_near_50 ⟨Nat.le_refl _, Nat.le_refl _⟩ (fun H locs hM => ?_)
          refine e_pop X dX1_near_53 rfl ?_
          exact hjkj14 M23 _ _ _ hM (lv_sub hl [1, 3, 4, 5, 0] rfl) hE
      · cases hE
        exact r_vret X hM dX1_near_35
theorem met_X1_near (l : Launch) (G : GG) (ad : Nat → Nat) (hp0 : HP) {D : rw_D} (b : Nat) (hb : NB D b) {N : Nat} (M : RM) (a1 : Int) (a2 : Int) (a3 : Int) (a4 : Int)  {out : RM} (hE : f_X1_near b N M a1 a2 a3 a4 = some out) : MR l yX1_near (ws_ yX1_near cX1_near 8 none) 6 G D ad hp0 [.ref (ad (b + 20)), vI a1, vL a2, vL a3, vI a4] M none out :=
  MR.of (by decide +kernel) (Nat.le_of_ble_eq_true rfl) rfl (fun p e s m below meth c ls X hM hl => wb_X1_near hb X hE hM hl)
def f_X1_stepFrom (b : Nat) (M0 : RM) (a1 : Int) : Option Int :=
  if ¬ w32 (iRem a1 2) = 0 then (ob (gA 25 M0 (b + 1) (iDiv a1 2)) fun v1 => some v1) else (ob (gA 25 M0 (b + 0) (iDiv a1 2)) fun v2 => some v2)
theorem hd_X1_stepFrom : yX1_stepFrom.cls = RX1 ∧ yX1_stepFrom.cls ≠ "java/lang/invoke/MethodHandle" ∧ yX1_stepFrom.cls ≠ "java/lang/invoke/VarHandle" ∧ (parseMethodDescriptor yX1_stepFrom.desc).map (fun d => d.parameters.length) = some 1 := by decide +kernel
theorem wb_X1_stepFrom {D : rw_D} {p : Program} {l : Launch} {e : Env} {s : State} {m : MethodId} {args : Array Value} {below : List Frame} {meth : Method} {c : Code} {G : GG} {ad : Nat → Nat} {hp0 : HP} {M0 : RM} {b : Nat} (hb : NB D b) (X : CX p s m args meth c cX1_stepFrom 2 RX1 (some .int) G) {a1 : Int}  {out : Int} (hE : f_X1_stepFrom b M0 a1 = some out) {H : Heap} {locs : List Loc} {ls : Array Slot} (hM : RW G D ad hp0 M0 H locs) (hl : lv_has ls 2 [(0, .ref (ad (b + 20))), (1, vI a1)]) : W p l e (rmD 0) s m args below meth c H locs 0 0 (QR below G D ad hp0 args s (some (vI out)) M0) (F0 m 0 ls []) := by
  unfold f_X1_stepFrom at hE
  refine e_iload_n X hl 1 rfl dX1_stepFrom_0 rfl ?_
  refine e_iconst X dX1_stepFrom_1 ?_
  refine e_irem X (by decide) dX1_stepFrom_2 ?_
  refine e_if_ne X (w32 (iRem a1 2)) rfl hE dX1_stepFrom_3 rfl (fun hE => ?_) (fun hE => ?_)
  · refine e_aload_n X hl 0 rfl dX1_stepFrom_17 rfl ?_
    refine r_getR X hM ck_X1 (b + 20) 1 (dn hb 20 rfl) rfl (by decide) q664 rfl dX1_stepFrom_18 ?_
    refine e_iload_n X hl 1 rfl dX1_stepFrom_21 rfl ?_
    refine e_iconst X dX1_stepFrom_22 ?_
    refine e_idiv X (by decide) dX1_stepFrom_23 ?_
    refine r_iald X hM (b + 1) (dn hb 1 rfl) (Nat.le_of_ble_eq_true rfl) hE dX1_stepFrom_24 (fun v1 hE => ?_)
    cases hE
    exact r_zret X hM rfl dX1_stepFrom_25
  · refine e_aload_n X hl 0 rfl dX1_stepFrom_6 rfl ?_
    refine r_getR X hM ck_X1 (b + 20) 0 (dn hb 20 rfl) rfl (by decide) q662 rfl dX1_stepFrom_7 ?_
    refine e_iload_n X hl 1 rfl dX1_stepFrom_10 rfl ?_
    refine e_iconst X dX1_stepFrom_11 ?_
    refine e_idiv X (by decide) dX1_stepFrom_12 ?_
    refine r_iald X hM (b + 0) (dn hb 0 rfl) (Nat.le_of_ble_eq_true rfl) hE dX1_stepFrom_13 (fun v2 hE => ?_)
    refine e_goto X dX1_stepFrom_14 rfl ?_
    cases hE
    exact r_zret X hM rfl dX1_stepFrom_25
theorem met_X1_stepFrom (l : Launch) (G : GG) (ad : Nat → Nat) (hp0 : HP) {D : rw_D} (b : Nat) (hb : NB D b) (M0 : RM) (a1 : Int)  {out : Int} (hE : f_X1_stepFrom b M0 a1 = some out) : MR l yX1_stepFrom (ws_ yX1_stepFrom cX1_stepFrom 2 (some .int)) 0 G D ad hp0 [.ref (ad (b + 20)), vI a1] M0 (some (vI out)) M0 :=
  MR.of (by decide +kernel) (Nat.le_of_ble_eq_true rfl) rfl (fun p e s m below meth c ls X hM hl => wb_X1_stepFrom hb X hE hM hl)
def f_X1_room (b : Nat) (M0 : RM) (a1 : Int) : Option Int :=
  jn (iDiv a1 2) fun v1 => if ¬ w32 (iRem a1 2) = 0 then (ob (gA 25 M0 (b + 5) v1) fun v2 => ob (gA 25 M0 (b + 2) v1) fun v3 => some (v2 - v3)) else (ob (gA 25 M0 (b + 3) v1) fun v4 => ob (gA 25 M0 (b + 5) v1) fun v5 => some (v4 - v5))
theorem hd_X1_room : yX1_room.cls = RX1 ∧ yX1_room.cls ≠ "java/lang/invoke/MethodHandle" ∧ yX1_room.cls ≠ "java/lang/invoke/VarHandle" ∧ (parseMethodDescriptor yX1_room.desc).map (fun d => d.parameters.length) = some 1 := by decide +kernel
theorem wb_X1_room {D : rw_D} {p : Program} {l : Launch} {e : Env} {s : State} {m : MethodId} {args : Array Value} {below : List Frame} {meth : Method} {c : Code} {G : GG} {ad : Nat → Nat} {hp0 : HP} {M0 : RM} {b : Nat} (hb : NB D b) (X : CX p s m args meth c cX1_room 3 RX1 (some .int) G) {a1 : Int}  {out : Int} (hE : f_X1_room b M0 a1 = some out) {H : Heap} {locs : List Loc} {ls : Array Slot} (hM : RW G D ad hp0 M0 H locs) (hl : lv_has ls 3 [(0, .ref (ad (b + 20))), (1, vI a1)]) : W p l e (rmD 0) s m args below meth c H locs 0 0 (QR below G D ad hp0 args s (some (vI out)) M0) (F0 m 0 ls []) := by
  unfold f_X1_room at hE
  refine e_iload_n X hl 1 rfl dX1_room_0 rfl ?_
  refine e_iconst X dX1_room_1 ?_
  refine e_idiv X (by decide) dX1_room_2 ?_
  refine e_top hE (fun v1 hE => ?_)
  refine e_istore_n X hl [(2, vI v1), (0, .ref (ad (b + 20))), (1, vI a1)] dX1_room_3 rfl (by decide) rfl (fun ls hl => ?_)
  refine e_iload_n X hl 2 rfl dX1_room_4 rfl ?_
  refine e_iconst X dX1_room_5 ?_
  refine e_irem X (by decide) dX1_room_6 ?_
  refine e_if_ne X (w32 (iRem a1 2)) rfl hE dX1_room_7 rfl (fun hE => ?_) (fun hE => ?_)
  · refine e_aload_n X hl 1 rfl dX1_room_26 rfl ?_
    refine r_getR X hM ck_X1 (b + 20) 5 (dn hb 20 rfl) rfl (by decide) q672 rfl dX1_room_27 ?_
    refine e_iload_n X hl 0 rfl dX1_room_30 rfl ?_
    refine r_iald X hM (b + 5) (dn hb 5 rfl) (Nat.le_of_ble_eq_true rfl) hE dX1_room_31 (fun v2 hE => ?_)
    refine e_aload_n X hl 1 rfl dX1_room_32 rfl ?_
    refine r_getR X hM ck_X1 (b + 20) 2 (dn hb 20 rfl) rfl (by decide) q666 rfl dX1_room_33 ?_
    refine e_iload_n X hl 0 rfl dX1_room_36 rfl ?_
    refine r_iald X hM (b + 2) (dn hb 2 rfl) (Nat.le_of_ble_eq_true rfl) hE dX1_room_37 (fun v3 hE => ?_)
    refine e_isub X dX1_room_38 ?_
    cases hE
    exact r_zret X hM rfl dX1_room_39
  · refine e_aload_n X hl 1 rfl dX1_room_10 rfl ?_
    refine r_getR X hM ck_X1 (b + 20) 3 (dn hb 20 rfl) rfl (by decide) q668 rfl dX1_room_11 ?_
    refine e_iload_n X hl 0 rfl dX1_room_14 rfl ?_
    refine r_iald X hM (b + 3) (dn hb 3 rfl) (Nat.le_of_ble_eq_true rfl) hE dX1_room_15 (fun v4 hE => ?_)
    refine e_aload_n X hl 1 rfl dX1_room_16 rfl ?_
    refine r_getR X hM ck_X1 (b + 20) 5 (dn hb 20 rfl) rfl (by decide) q672 rfl dX1_room_17 ?_
    refine e_iload_n X hl 0 rfl dX1_room_20 rfl ?_
    refine r_iald X hM (b + 5) (dn hb 5 rfl) (Nat.le_of_ble_eq_true rfl) hE dX1_room_21 (fun v5 hE => ?_)
    refine e_isub X dX1_room_22 ?_
    refine e_goto X dX1_room_23 rfl ?_
    cases hE
    exact r_zret X hM rfl dX1_room_39
theorem met_X1_room (l : Launch) (G : GG) (ad : Nat → Nat) (hp0 : HP) {D : rw_D} (b : Nat) (hb : NB D b) (M0 : RM) (a1 : Int)  {out : Int} (hE : f_X1_room b M0 a1 = some out) : MR l yX1_room (ws_ yX1_room cX1_room 3 (some .int)) 0 G D ad hp0 [.ref (ad (b + 20)), vI a1] M0 (some (vI out)) M0 :=
  MR.of (by decide +kernel) (Nat.le_of_ble_eq_true rfl) rfl (fun p e s m below meth c ls X hM hl => wb_X1_room hb X hE hM hl)
def f_X1_stepTo (b : Nat) (M0 : RM) (a1 : Int) : Option Int :=
  if ¬ w32 (iRem a1 2) = 0 then (ob (gA 25 M0 (b + 0) (iDiv a1 2)) fun v1 => some v1) else (ob (gA 25 M0 (b + 1) (iDiv a1 2)) fun v2 => some v2)
theorem hd_X1_stepTo : yX1_stepTo.cls = RX1 ∧ yX1_stepTo.cls ≠ "java/lang/invoke/MethodHandle" ∧ yX1_stepTo.cls ≠ "java/lang/invoke/VarHandle" ∧ (parseMethodDescriptor yX1_stepTo.desc).map (fun d => d.parameters.length) = some 1 := by decide +kernel
theorem wb_X1_stepTo {D : rw_D} {p : Program} {l : Launch} {e : Env} {s : State} {m : MethodId} {args : Array Value} {below : List Frame} {meth : Method} {c : Code} {G : GG} {ad : Nat → Nat} {hp0 : HP} {M0 : RM} {b : Nat} (hb : NB D b) (X : CX p s m args meth c cX1_stepTo 2 RX1 (some .int) G) {a1 : Int}  {out : Int} (hE : f_X1_stepTo b M0 a1 = some out) {H : Heap} {locs : List Loc} {ls : Array Slot} (hM : RW G D ad hp0 M0 H locs) (hl : lv_has ls 2 [(0, .ref (ad (b + 20))), (1, vI a1)]) : W p l e (rmD 0) s m args below meth c H locs 0 0 (QR below G D ad hp0 args s (some (vI out)) M0) (F0 m 0 ls []) := by
  unfold f_X1_stepTo at hE
  refine e_iload_n X hl 1 rfl dX1_stepTo_0 rfl ?_
  refine e_iconst X dX1_stepTo_1 ?_
  refine e_irem X (by decide) dX1_stepTo_2 ?_
  refine e_if_ne X (w32 (iRem a1 2)) rfl hE dX1_stepTo_3 rfl (fun hE => ?_) (fun hE => ?_)
  · refine e_aload_n X hl 0 rfl dX1_stepTo_17 rfl ?_
    refine r_getR X hM ck_X1 (b + 20) 0 (dn hb 20 rfl) rfl (by decide) q662 rfl dX1_stepTo_18 ?_
    refine e_iload_n X hl 1 rfl dX1_stepTo_21 rfl ?_
    refine e_iconst X dX1_stepTo_22 ?_
    refine e_idiv X (by decide) dX1_stepTo_23 ?_
    refine r_iald X hM (b + 0) (dn hb 0 rfl) (Nat.le_of_ble_eq_true rfl) hE dX1_stepTo_24 (fun v1 hE => ?_)
    cases hE
    exact r_zret X hM rfl dX1_stepTo_25
  · refine e_aload_n X hl 0 rfl dX1_stepTo_6 rfl ?_
    refine r_getR X hM ck_X1 (b + 20) 1 (dn hb 20 rfl) rfl (by decide) q664 rfl dX1_stepTo_7 ?_
    refine e_iload_n X hl 1 rfl dX1_stepTo_10 rfl ?_
    refine e_iconst X dX1_stepTo_11 ?_
    refine e_idiv X (by decide) dX1_stepTo_12 ?_
    refine r_iald X hM (b + 1) (dn hb 1 rfl) (Nat.le_of_ble_eq_true rfl) hE dX1_stepTo_13 (fun v2 hE => ?_)
    refine e_goto X dX1_stepTo_14 rfl ?_
    cases hE
    exact r_zret X hM rfl dX1_stepTo_25
theorem met_X1_stepTo (l : Launch) (G : GG) (ad : Nat → Nat) (hp0 : HP) {D : rw_D} (b : Nat) (hb : NB D b) (M0 : RM) (a1 : Int)  {out : Int} (hE : f_X1_stepTo b M0 a1 = some out) : MR l yX1_stepTo (ws_ yX1_stepTo cX1_stepTo 2 (some .int)) 0 G D ad hp0 [.ref (ad (b + 20)), vI a1] M0 (some (vI out)) M0 :=
  MR.of (by decide +kernel) (Nat.le_of_ble_eq_true rfl) rfl (fun p e s m below meth c ls X hM hl => wb_X1_stepTo hb X hE hM hl)
def f_X1_stepCost (b : Nat) (M0 : RM) (a1 : Int) : Option Int :=
  if ¬ w32 (iRem a1 2) = 0 then (ob (gA 25 M0 (b + 4) (iDiv a1 2)) fun v1 => some (-v1)) else (ob (gA 25 M0 (b + 4) (iDiv a1 2)) fun v2 => some v2)
theorem hd_X1_stepCost : yX1_stepCost.cls = RX1 ∧ yX1_stepCost.cls ≠ "java/lang/invoke/MethodHandle" ∧ yX1_stepCost.cls ≠ "java/lang/invoke/VarHandle" ∧ (parseMethodDescriptor yX1_stepCost.desc).map (fun d => d.parameters.length) = some 1 := by decide +kernel
theorem wb_X1_stepCost {D : rw_D} {p : Program} {l : Launch} {e : Env} {s : State} {m : MethodId} {args : Array Value} {below : List Frame} {meth : Method} {c : Code} {G : GG} {ad : Nat → Nat} {hp0 : HP} {M0 : RM} {b : Nat} (hb : NB D b) (X : CX p s m args meth c cX1_stepCost 2 RX1 (some .long) G) {a1 : Int}  {out : Int} (hE : f_X1_stepCost b M0 a1 = some out) {H : Heap} {locs : List Loc} {ls : Array Slot} (hM : RW G D ad hp0 M0 H locs) (hl : lv_has ls 2 [(0, .ref (ad (b + 20))), (1, vI a1)]) : W p l e (rmD 0) s m args below meth c H locs 0 0 (QR below G D ad hp0 args s (some (vL out)) M0) (F0 m 0 ls []) := by
  unfold f_X1_stepCost at hE
  refine e_iload_n X hl 1 rfl dX1_stepCost_0 rfl ?_
  refine e_iconst X dX1_stepCost_1 ?_
  refine e_irem X (by decide) dX1_stepCost_2 ?_
  refine e_if_ne X (w32 (iRem a1 2)) rfl hE dX1_stepCost_3 rfl (fun hE => ?_) (fun hE => ?_)
  · refine e_aload_n X hl 0 rfl dX1_stepCost_17 rfl ?_
    refine r_getR X hM ck_X1 (b + 20) 4 (dn hb 20 rfl) rfl (by decide) q670 rfl dX1_stepCost_18 ?_
    refine e_iload_n X hl 1 rfl dX1_stepCost_21 rfl ?_
    refine e_iconst X dX1_stepCost_22 ?_
    refine e_idiv X (by decide) dX1_stepCost_23 ?_
    refine r_lald X hM (b + 4) (dn hb 4 rfl) (Nat.le_of_ble_eq_true rfl) hE dX1_stepCost_24 (fun v1 hE => ?_)
    refine e_lneg X dX1_stepCost_25 ?_
    cases hE
    exact r_lret X hM dX1_stepCost_26
  · refine e_aload_n X hl 0 rfl dX1_stepCost_6 rfl ?_
    refine r_getR X hM ck_X1 (b + 20) 4 (dn hb 20 rfl) rfl (by decide) q670 rfl dX1_stepCost_7 ?_
    refine e_iload_n X hl 1 rfl dX1_stepCost_10 rfl ?_
    refine e_iconst X dX1_stepCost_11 ?_
    refine e_idiv X (by decide) dX1_stepCost_12 ?_
    refine r_lald X hM (b + 4) (dn hb 4 rfl) (Nat.le_of_ble_eq_true rfl) hE dX1_stepCost_13 (fun v2 hE => ?_)
    refine e_goto X dX1_stepCost_14 rfl ?_
    cases hE
    exact r_lret X hM dX1_stepCost_26
theorem met_X1_stepCost (l : Launch) (G : GG) (ad : Nat → Nat) (hp0 : HP) {D : rw_D} (b : Nat) (hb : NB D b) (M0 : RM) (a1 : Int)  {out : Int} (hE : f_X1_stepCost b M0 a1 = some out) : MR l yX1_stepCost (ws_ yX1_stepCost cX1_stepCost 2 (some .long)) 0 G D ad hp0 [.ref (ad (b + 20)), vI a1] M0 (some (vL out)) M0 :=
  MR.of (by decide +kernel) (Nat.le_of_ble_eq_true rfl) rfl (fun p e s m below meth c ls X hM hl => wb_X1_stepCost hb X hE hM hl)
def f_X1_weightOf (b : Nat) (M0 : RM) (a1 : Int) : Option Int :=
  some (lShl 1 (24 - a1))
theorem hd_X1_weightOf : yX1_weightOf.cls ≠ "java/lang/invoke/MethodHandle" ∧ yX1_weightOf.cls ≠ "java/lang/invoke/VarHandle" ∧ (parseMethodDescriptor yX1_weightOf.desc).map (fun d => d.parameters.length) = some 1 := by decide +kernel
theorem wb_X1_weightOf {D : rw_D} {p : Program} {l : Launch} {e : Env} {s : State} {m : MethodId} {args : Array Value} {below : List Frame} {meth : Method} {c : Code} {G : GG} {ad : Nat → Nat} {hp0 : HP} {M0 : RM} {b : Nat} (hb : NB D b) (X : CX p s m args meth c cX1_weightOf 1 RX1 (some .long) G) {a1 : Int}  {out : Int} (hE : f_X1_weightOf b M0 a1 = some out) {H : Heap} {locs : List Loc} {ls : Array Slot} (hM : RW G D ad hp0 M0 H locs) (hl : lv_has ls 1 [(0, vI a1)]) : W p l e (rmD 0) s m args below meth c H locs 0 0 (QR below G D ad hp0 args s (some (vL out)) M0) (F0 m 0 ls []) := by
  unfold f_X1_weightOf at hE
  refine e_lconst X 1 dX1_weightOf_0 (by decide) ?_
  refine e_bipush X dX1_weightOf_1 (by decide) ?_
  refine e_iload_n X hl 0 rfl dX1_weightOf_3 rfl ?_
  refine e_isub X dX1_weightOf_4 ?_
  refine e_lshl X dX1_weightOf_5 ?_
  cases hE
  exact r_lret X hM dX1_weightOf_6
theorem met_X1_weightOf (l : Launch) (G : GG) (ad : Nat → Nat) (hp0 : HP) {D : rw_D} (b : Nat) (hb : NB D b) (M0 : RM) (a1 : Int)  {out : Int} (hE : f_X1_weightOf b M0 a1 = some out) : MR l yX1_weightOf (ws_ yX1_weightOf cX1_weightOf 1 (some .long)) 0 G D ad hp0 [vI a1] M0 (some (vL out)) M0 :=
  MR.of (by decide +kernel) (Nat.le_of_ble_eq_true rfl) rfl (fun p e s m below meth c ls X hM hl => wb_X1_weightOf hb X hE hM hl)
def f_X1_stepWeight (b : Nat) (M0 : RM) (a1 : Int) : Option Int :=
  if ¬ w32 (iRem a1 2) = 0 then (ob (f_X1_weightOf b M0 (iDiv a1 2)) fun v1 => some (-v1)) else (ob (f_X1_weightOf b M0 (iDiv a1 2)) fun v2 => some v2)
theorem hd_X1_stepWeight : yX1_stepWeight.cls = RX1 ∧ yX1_stepWeight.cls ≠ "java/lang/invoke/MethodHandle" ∧ yX1_stepWeight.cls ≠ "java/lang/invoke/VarHandle" ∧ (parseMethodDescriptor yX1_stepWeight.desc).map (fun d => d.parameters.length) = some 1 := by decide +kernel
theorem wb_X1_stepWeight {D : rw_D} {p : Program} {l : Launch} {e : Env} {s : State} {m : MethodId} {args : Array Value} {below : List Frame} {meth : Method} {c : Code} {G : GG} {ad : Nat → Nat} {hp0 : HP} {M0 : RM} {b : Nat} (hb : NB D b) (X : CX p s m args meth c cX1_stepWeight 2 RX1 (some .long) G) {a1 : Int}  {out : Int} (hE : f_X1_stepWeight b M0 a1 = some out) {H : Heap} {locs : List Loc} {ls : Array Slot} (hM : RW G D ad hp0 M0 H locs) (hl : lv_has ls 2 [(0, .ref (ad (b + 20))), (1, vI a1)]) : W p l e (rmD 1) s m args below meth c H locs 0 0 (QR below G D ad hp0 args s (some (vL out)) M0) (F0 m 0 ls []) := by
  unfold f_X1_stepWeight at hE
  refine e_iload_n X hl 1 rfl dX1_stepWeight_0 rfl ?_
  refine e_iconst X dX1_stepWeight_1 ?_
  refine e_irem X (by decide) dX1_stepWeight_2 ?_
  refine e_if_ne X (w32 (iRem a1 2)) rfl hE dX1_stepWeight_3 rfl (fun hE => ?_) (fun hE => ?_)
  · refine e_iload_n X hl 1 rfl dX1_stepWeight_15 rfl ?_
    refine e_iconst X dX1_stepWeight_16 ?_
    refine e_idiv X (by decide) dX1_stepWeight_17 ?_
    obtain ⟨v1, h, hE⟩ := ob_some hE
    refine r_callS1 X hM (rest := []) (met_X1_weightOf l G ad hp0 b hb M0 (iDiv a1 2) h) (va_cwS 1 X.ht (lw_S q2223 q2224 q132 q2225) rfl rfl rfl hd_X1_weightOf (cxR (by decide) (by decide))) rfl hl.1 rfl (Nat.le_of_ble_eq_true rfl) dX1_stepWeight_18 ⟨Nat.le_refl _, Nat.le_refl _⟩ (fun H locs hM => ?_)
    refine e_lneg X dX1_stepWeight_21 ?_
    cases hE
    exact r_lret X hM dX1_stepWeight_22
  · refine e_iload_n X hl 1 rfl dX1_stepWeight_6 rfl ?_
    refine e_iconst X dX1_stepWeight_7 ?_
    refine e_idiv X (by decide) dX1_stepWeight_8 ?_
    obtain ⟨v2, h, hE⟩ := ob_some hE
    refine r_callS1 X hM (rest := []) (met_X1_weightOf l G ad hp0 b hb M0 (iDiv a1 2) h) (va_cwS 1 X.ht (lw_S q2223 q2224 q132 q2225) rfl rfl rfl hd_X1_weightOf (cxR (by decide) (by decide))) rfl hl.1 rfl (Nat.le_of_ble_eq_true rfl) dX1_stepWeight_9 ⟨Nat.le_refl _, Nat.le_refl _⟩ (fun H locs hM => ?_)
    refine e_goto X dX1_stepWeight_12 rfl ?_
    cases hE
    exact r_lret X hM dX1_stepWeight_22
theorem met_X1_stepWeight (l : Launch) (G : GG) (ad : Nat → Nat) (hp0 : HP) {D : rw_D} (b : Nat) (hb : NB D b) (M0 : RM) (a1 : Int)  {out : Int} (hE : f_X1_stepWeight b M0 a1 = some out) : MR l yX1_stepWeight (ws_ yX1_stepWeight cX1_stepWeight 2 (some .long)) 1 G D ad hp0 [.ref (ad (b + 20)), vI a1] M0 (some (vL out)) M0 :=
  MR.of (by decide +kernel) (Nat.le_of_ble_eq_true rfl) rfl (fun p e s m below meth c ls X hM hl => wb_X1_stepWeight hb X hE hM hl)
def f_X1_reaches_L18 (b : Nat) (N : Nat) (b1 : Int) (b3 : Int) (k : RM → Int → Option RM) : Nat → RM → Int → Option RM
  | 0, _, _ => none
  | n + 1, M, x4 =>
    if w32 b3 ≤ w32 x4 then (k M x4) else (ob (gA 8 M (b + 10) x4) fun v3 => ob (dr (b + 21) 8 v3) fun o4 => jn (up2 M o4 3 0) fun M5 => jn (up2 M5 o4 4 0) fun M6 => jn (x4 + 1) fun v7 => f_X1_reaches_L18 b N b1 b3 k n M6 v7)
def f_X1_reaches_L84 (b : Nat) (N : Nat) (b2 : Nat) (k : RM → Int → Option RM) : Nat → RM → Int → Option RM
  | 0, _, _ => none
  | n + 1, M, x3 =>
    if w32 (2 * (M (b + 20) 13)) ≤ w32 x3 then (k M x3) else (ob (f_X1_stepFrom b M x3) fun v16 => jn (fun (M18 : RM) => jn (x3 + 1) fun v19 => f_X1_reaches_L84 b N b2 k n M18 v19) fun kj17 => if ¬ w32 v16 = w32 (M b2 0) then (kj17 M) else (ob (f_X1_room b M x3) fun v20 => if w32 v20 ≤ 0 then (kj17 M) else (ob (f_X1_stepTo b M x3) fun v21 => ob (f_X1_stepCost b M x3) fun v22 => ob (gA 8 M (b + 8) (M b2 0)) fun v23 => ob (gA 8 M (b + 8) v21) fun v24 => jn ((v22 + v23) - v24) fun v25 => ob (f_X1_stepWeight b M x3) fun v26 => ob (gA 8 M (b + 9) (M b2 0)) fun v27 => ob (gA 8 M (b + 9) v21) fun v28 => jn ((v26 + v27) - v28) fun v29 => ob (f_X1_near b N M v21 ((M b2 1) + v25) ((M b2 2) + v29) x3) fun M30 => kj17 M30)))
def f_X1_reaches_L56 (b : Nat) (N : Nat)  (k : RM → Option RM) : Nat → RM → Option RM
  | 0, _ => none
  | n + 1, M =>
    ob (f_J0_isEmpty b M) fun v11 => if ¬ w32 v11 = 0 then (k M) else (ob2 (f_J5_poll b N M) fun v12 M13 => ob (dr (b + 21) 8 v12) fun o14 => jn (up2 M13 o14 4 1) fun M15 => f_X1_reaches_L84 b N o14 (fun (M31 : RM) (v32 : Int) => f_X1_reaches_L56 b N  k n M31) N M15 0)
def f_X1_reaches (b : Nat) (N : Nat) (M : RM) (a1 : Int) : Option RM :=
  ob (f_J5_clear b N M) fun M1 => jn ((8 : Nat) : Int) fun v2 => f_X1_reaches_L18 b N a1 v2 (fun (M8 : RM) (v9 : Int) => ob (f_X1_near b N M8 a1 0 0 (-1)) fun M10 => f_X1_reaches_L56 b N  (fun (M33 : RM) => some M33) N M10) N M1 0
theorem hd_X1_reaches : yX1_reaches.cls = RX1 ∧ yX1_reaches.cls ≠ "java/lang/invoke/MethodHandle" ∧ yX1_reaches.cls ≠ "java/lang/invoke/VarHandle" ∧ (parseMethodDescriptor yX1_reaches.desc).map (fun d => d.parameters.length) = some 1 := by decide +kernel
theorem wl_X1_reaches_18 {D : rw_D} {p : Program} {l : Launch} {e : Env} {s : State} {m : MethodId} {args : Array Value} {below : List Frame} {meth : Method} {c : Code} {G : GG} {ad : Nat → Nat} {hp0 : HP} {b : Nat} (hb : NB D b) (X : CX p s m args meth c cX1_reaches 9 RX1 none G) {N : Nat} {b1 : Int} {b3 : Int} {k : RM → Int → Option RM} {out : RM} : ∀ (n : Nat) (M : RM) (x4 : Int) (H : Heap) (locs : List Loc) (ls : Array Slot) (hE : f_X1_reaches_L18 b N b1 b3 k n M x4 = some out) (hM : RW G D ad hp0 M H locs) (hl : lv_has ls 9 [(0, .ref (ad (b + 20))), (1, vI b1), (2, .ref (ad (b + 10))), (3, vI b3), (4, vI x4)]) (hk : ∀ (M : RM) (x4 : Int) (H : Heap) (locs : List Loc) (ls : Array Slot), RW G D ad hp0 M H locs → lv_has ls 9 [(0, .ref (ad (b + 20))), (1, vI b1), (2, .ref (ad (b + 10))), (3, vI b3), (4, vI x4)] → k M x4 = some out → W p l e (rmD 7) s m args below meth c H locs 0 0 (QR below G D ad hp0 args s none out) (F0 m 48 ls [])), W p l e (rmD 7) s m args below meth c H locs 0 0 (QR below G D ad hp0 args s none out) (F0 m 18 ls []) := by
  intro n
  induction n with
  | zero =>
    intro M x4 H locs ls hE hM hl hk
    unfold f_X1_reaches_L18 at hE
    cases hE
  | succ n ih =>
    intro M x4 H locs ls hE hM hl hk
    unfold f_X1_reaches_L18 at hE
    refine e_iload X hl 4 rfl dX1_reaches_18 ?_
    refine e_iload_n X hl 3 rfl dX1_reaches_20 rfl ?_
    refine e_icmp_ge X (w32 x4) (w32 b3) rfl rfl hE dX1_reaches_21 rfl (fun hE => ?_) (fun hE => ?_)
    · exact hk M x4 _ _ _ hM (lv_sub hl [0, 1, 2, 3, 4] rfl) hE
    · refine e_aload_n X hl 2 rfl dX1_reaches_24 rfl ?_
      refine e_iload X hl 4 rfl dX1_reaches_25 ?_
      refine r_aald X hM (b + 10) (dn hb 10 rfl) (fun _ => rfl) (fun _ => rfl) (Nat.le_of_ble_eq_true rfl) hE dX1_reaches_27 (fun v3 hE => ?_)
      refine e_deref hE (fun o4 ho4 hE => ?_)
      refine e_astore X hl [(5, .ref (ad o4)), (0, .ref (ad (b + 20))), (1, vI b1), (2, .ref (ad (b + 10))), (3, vI b3), (4, vI x4)] dX1_reaches_28 (by decide) rfl (fun ls hl => ?_)
      refine e_aload X hl 0 rfl dX1_reaches_30 ?_
      refine e_iconst X dX1_reaches_32 ?_
      refine r_putNZ X hM ck_X2 o4 3 (dpl hb ho4) rfl (by decide) q646 rfl rfl hE (by decide) rfl dX1_reaches_33 (fun M5 hE H locs hM => ?_)
      refine e_aload X hl 0 rfl dX1_reaches_36 ?_
      refine e_iconst X dX1_reaches_38 ?_
      refine r_putNZ X hM ck_X2 o4 4 (dpl hb ho4) rfl (by decide) q647 rfl rfl hE (by decide) rfl dX1_reaches_39 (fun M6 hE H locs hM => ?_)
      refine e_iinc X hl 5 hE (fun v7 => [(4, vI v7), (5, .ref (ad o4)), (0, .ref (ad (b + 20))), (1, vI b1), (2, .ref (ad (b + 10))), (3, vI b3)]) rfl dX1_reaches_42 (by decide) (fun _ => rfl) (fun v7 hE ls hl => ?_)
      refine e_goto X dX1_reaches_45 rfl ?_
      exact ih M6 v7 _ _ _ hE hM (lv_sub hl [2, 3, 4, 5, 0] rfl) hk
theorem wl_X1_reaches_84 {D : rw_D} {p : Program} {l : Launch} {e : Env} {s : State} {m : MethodId} {args : Array Value} {below : List Frame} {meth : Method} {c : Code} {G : GG} {ad : Nat → Nat} {hp0 : HP} {b : Nat} (hb : NB D b) (X : CX p s m args meth c cX1_reaches 9 RX1 none G) {N : Nat} {b2 : Nat} (hb2 : D b2 = some (.inr (2, plF))) {k : RM → Int → Option RM} {out : RM} : ∀ (n : Nat) (M : RM) (x3 : Int) (H : Heap) (locs : List Loc) (ls : Array Slot) (hE : f_X1_reaches_L84 b N b2 k n M x3 = some out) (hM : RW G D ad hp0 M H locs) (hl : lv_has ls 9 [(0, .ref (ad (b + 20))), (2, .ref (ad b2)), (3, vI x3)]) (hk : ∀ (M : RM) (x3 : Int) (H : Heap) (locs : List Loc) (ls : Array Slot), RW G D ad hp0 M H locs → lv_has ls 9 [(0, .ref (ad (b + 20))), (2, .ref (ad b2)), (3, vI x3)] → k M x3 = some out → W p l e (rmD 7) s m args below meth c H locs 0 0 (QR below G D ad hp0 args s none out) (F0 m 198 ls [])), W p l e (rmD 7) s m args below meth c H locs 0 0 (QR below G D ad hp0 args s none out) (F0 m 84 ls []) := by
  intro n
  induction n with
  | zero =>
    intro M x3 H locs ls hE hM hl hk
    unfold f_X1_reaches_L84 at hE
    cases hE
  | succ n ih =>
    intro M x3 H locs ls hE hM hl hk
    unfold f_X1_reaches_L84 at hE
    refine e_iload_n X hl 2 rfl dX1_reaches_84 rfl ?_
    refine e_iconst X dX1_reaches_85 ?_
    refine e_aload_n X hl 0 rfl dX1_reaches_86 rfl ?_
    refine r_getI X hM ck_X1 (b + 20) 13 (dn hb 20 rfl) rfl (by decide) q684 rfl dX1_reaches_87 ?_
    refine e_imul X dX1_reaches_90 ?_
    refine e_icmp_ge X (w32 x3) (w32 (2 * (M (b + 20) 13))) rfl rfl hE dX1_reaches_91 rfl (fun hE => ?_) (fun hE => ?_)
    · exact hk M x3 _ _ _ hM (lv_sub hl [0, 1, 2] rfl) hE
    · refine e_aload_n X hl 0 rfl dX1_reaches_94 rfl ?_
      refine e_iload_n X hl 2 rfl dX1_reaches_95 rfl ?_
      obtain ⟨v16, h, hE⟩ := ob_some hE
      refine r_callV1 X hM (b + 20) (dn hb 20 rfl) ck_X1 (rest := []) (met_X1_stepFrom l G ad hp0 b hb M x3 h) (cwV 1 X.ht (lw_V q2203 q2204 q2205 q132 q2206) rfl rfl rfl hd_X1_stepFrom (cxR (by decide) (by decide))) rfl hl.1 rfl (Nat.le_of_ble_eq_true rfl) dX1_reaches_96 ⟨Nat.le_refl _, Nat.le_refl _⟩ (fun H locs hM => ?_)
      refine e_aload_n X hl 1 rfl dX1_reaches_99 rfl ?_
      refine r_getNI X hM ck_X2 b2 0 hb2 rfl (by decide) q641 rfl dX1_reaches_100 ?_
      obtain ⟨kj17, hkj17, hE⟩ := jn_ex hE
      have hjkj17 : ∀ (M18 : RM) (H : Heap) (locs : List Loc) (ls : Array Slot), RW G D ad hp0 M18 H locs → lv_has ls 9 [(0, .ref (ad (b + 20))), (2, .ref (ad b2)), (3, vI x3)] → kj17 M18 = some out → W p l e (rmD 7) s m args below meth c H locs 0 0 (QR below G D ad hp0 args s none out) (F0 m 192 ls []) := by
        intro M18 H locs ls hM hl hE
        subst hkj17
        refine e_iinc X hl 2 hE (fun v19 => [(3, vI v19), (0, .ref (ad (b + 20))), (2, .ref (ad b2))]) rfl dX1_reaches_192 (by decide) (fun _ => rfl) (fun v19 hE ls hl => ?_)
        refine e_goto X dX1_reaches_195 rfl ?_
        exact ih M18 v19 _ _ _ hE hM (lv_sub hl [1, 2, 0] rfl) hk
      refine e_icmp_ne X (w32 v16) (w32 (M b2 0)) rfl rfl hE dX1_reaches_103 rfl (fun hE => ?_) (fun hE => ?_)
      · exact hjkj17 M _ _ _ hM (lv_sub hl [0, 1, 2] rfl) hE
      · refine e_aload_n X hl 0 rfl dX1_reaches_106 rfl ?_
        refine e_iload_n X hl 2 rfl dX1_reaches_107 rfl ?_
        obtain ⟨v20, h, hE⟩ := ob_some hE
        refine r_callV1 X hM (b + 20) (dn hb 20 rfl) ck_X1 (rest := []) (met_X1_room l G ad hp0 b hb M x3 h) (cwV 1 X.ht (lw_V q2207 q2208 q2209 q132 q2210) rfl rfl rfl hd_X1_room (cxR (by decide) (by decide))) rfl hl.1 rfl (Nat.le_of_ble_eq_true rfl) dX1_reaches_108 ⟨Nat.le_refl _, Nat.le_refl _⟩ (fun H locs hM => ?_)
        refine e_if_le X (w32 v20) rfl hE dX1_reaches_111 rfl (fun hE => ?_) (fun hE => ?_)
        · exact hjkj17 M _ _ _ hM (lv_sub hl [0, 1, 2] rfl) hE
        · refine e_aload_n X hl 0 rfl dX1_reaches_114 rfl ?_
          refine e_iload_n X hl 2 rfl dX1_reaches_115 rfl ?_
          obtain ⟨v21, h, hE⟩ := ob_some hE
          refine r_callV1 X hM (b + 20) (dn hb 20 rfl) ck_X1 (rest := []) (met_X1_stepTo l G ad hp0 b hb M x3 h) (cwV 1 X.ht (lw_V q2211 q2212 q2213 q132 q2214) rfl rfl rfl hd_X1_stepTo (cxR (by decide) (by decide))) rfl hl.1 rfl (Nat.le_of_ble_eq_true rfl) dX1_reaches_116 ⟨Nat.le_refl _, Nat.le_refl _⟩ (fun H locs hM => ?_)
          refine e_istore X hl [(4, vI v21), (0, .ref (ad (b + 20))), (2, .ref (ad b2)), (3, vI x3)] dX1_reaches_119 (by decide) rfl (fun ls hl => ?_)
          refine e_aload_n X hl 1 rfl dX1_reaches_121 rfl ?_
          refine e_iload_n X hl 3 rfl dX1_reaches_122 rfl ?_
          obtain ⟨v22, h, hE⟩ := ob_some hE
          refine r_callV1 X hM (b + 20) (dn hb 20 rfl) ck_X1 (rest := []) (met_X1_stepCost l G ad hp0 b hb M x3 h) (cwV 1 X.ht (lw_V q2215 q2216 q2217 q132 q2218) rfl rfl rfl hd_X1_stepCost (cxR (by decide) (by decide))) rfl hl.1 rfl (Nat.le_of_ble_eq_true rfl) dX1_reaches_123 ⟨Nat.le_refl _, Nat.le_refl _⟩ (fun H locs hM => ?_)
          refine e_aload_n X hl 1 rfl dX1_reaches_126 rfl ?_
          refine r_getR X hM ck_X1 (b + 20) 8 (dn hb 20 rfl) rfl (by decide) q678 rfl dX1_reaches_127 ?_
          refine e_aload_n X hl 2 rfl dX1_reaches_130 rfl ?_
          refine r_getNI X hM ck_X2 b2 0 hb2 rfl (by decide) q641 rfl dX1_reaches_131 ?_
          refine r_lald X hM (b + 8) (dn hb 8 rfl) (Nat.le_of_ble_eq_true rfl) hE dX1_reaches_134 (fun v23 hE => ?_)
          refine e_ladd X dX1_reaches_135 ?_
          refine e_aload_n X hl 1 rfl dX1_reaches_136 rfl ?_
          refine r_getR X hM ck_X1 (b + 20) 8 (dn hb 20 rfl) rfl (by decide) q678 rfl dX1_reaches_137 ?_
          refine e_iload X hl 0 rfl dX1_reaches_140 ?_
          refine r_lald X hM (b + 8) (dn hb 8 rfl) (Nat.le_of_ble_eq_true rfl) hE dX1_reaches_142 (fun v24 hE => ?_)
          refine e_lsub X dX1_reaches_143 ?_
          refine e_topl hE (fun v25 hE => ?_)
          refine e_lstore X hl [(5, vL v25), (4, vI v21), (0, .ref (ad (b + 20))), (2, .ref (ad b2)), (3, vI x3)] dX1_reaches_144 (by decide) rfl (fun ls hl => ?_)
          refine e_aload_n X hl 2 rfl dX1_reaches_146 rfl ?_
          refine e_iload_n X hl 4 rfl dX1_reaches_147 rfl ?_
          obtain ⟨v26, h, hE⟩ := ob_some hE
          refine r_callV1 X hM (b + 20) (dn hb 20 rfl) ck_X1 (rest := []) (met_X1_stepWeight l G ad hp0 b hb M x3 h) (cwV 1 X.ht (lw_V q2219 q2221 qs46 q132 q2222) rfl rfl rfl hd_X1_stepWeight (cxR (by decide) (by decide))) rfl hl.1 rfl (Nat.le_of_ble_eq_true rfl) dX1_reaches_148 ⟨Nat.le_refl _, Nat.le_refl _⟩ (fun H locs hM => ?_)
          refine e_aload_n X hl 2 rfl dX1_reaches_151 rfl ?_
          refine r_getR X hM ck_X1 (b + 20) 9 (dn hb 20 rfl) rfl (by decide) q679 rfl dX1_reaches_152 ?_
          refine e_aload_n X hl 3 rfl dX1_reaches_155 rfl ?_
          refine r_getNI X hM ck_X2 b2 0 hb2 rfl (by decide) q641 rfl dX1_reaches_156 ?_
          refine r_lald X hM (b + 9) (dn hb 9 rfl) (Nat.le_of_ble_eq_true rfl) hE dX1_reaches_159 (fun v27 hE => ?_)
          refine e_ladd X dX1_reaches_160 ?_
          refine e_aload_n X hl 2 rfl dX1_reaches_161 rfl ?_
          refine r_getR X hM ck_X1 (b + 20) 9 (dn hb 20 rfl) rfl (by decide) q679 rfl dX1_reaches_162 ?_
          refine e_iload X hl 1 rfl dX1_reaches_165 ?_
          refine r_lald X hM (b + 9) (dn hb 9 rfl) (Nat.le_of_ble_eq_true rfl) hE dX1_reaches_167 (fun v28 hE => ?_)
          refine e_lsub X dX1_reaches_168 ?_
          refine e_topl hE (fun v29 hE => ?_)
          refine e_lstore X hl [(7, vL v29), (5, vL v25), (4, vI v21), (0, .ref (ad (b + 20))), (2, .ref (ad b2)), (3, vI x3)] dX1_reaches_169 (by decide) rfl (fun ls hl => ?_)
          refine e_aload_n X hl 3 rfl dX1_reaches_171 rfl ?_
          refine e_iload X hl 2 rfl dX1_reaches_172 ?_
          refine e_aload_n X hl 4 rfl dX1_reaches_174 rfl ?_
          refine r_getNJ X hM ck_X2 b2 1 hb2 rfl (by decide) q643 rfl dX1_reaches_175 ?_
          refine e_lload X hl 1 rfl dX1_reaches_178 ?_
          refine e_ladd X dX1_reaches_180 ?_
          refine e_aload_n X hl 4 rfl dX1_reaches_181 rfl ?_
          refine r_getNJ X hM ck_X2 b2 2 hb2 rfl (by decide) q645 rfl dX1_reaches_182 ?_
          refine e_lload X hl 0 rfl dX1_reaches_185 ?_
          refine e_ladd X dX1_reaches_187 ?_
          refine e_iload_n X hl 5 rfl dX1_reaches_188 rfl ?_
          obtain ⟨M30, h, hE⟩ := ob_some hE
          refine r_callV0 X hM (b + 20) (dn hb 20 rfl) ck_X1 (rest := []) (met_X1_near l G ad hp0 b hb M v21 ((M b2 1) + v25) ((M b2 2) + v29) x3 h) (cwV 4 X.ht (lw_V q2103 q2105 qs43 q132 q2106) rfl rfl rfl hd_X1_near (cxR (by decide) (by decide))) rfl hl.1 rfl (Nat.le_of_ble_eq_true rfl) dX1_reaches_189 ⟨Nat.le_refl _, Nat.le_refl _⟩ (fun H locs hM => ?_)
          exact hjkj17 M30 _ _ _ hM (lv_sub hl [3, 4, 5] rfl) hE
theorem wl_X1_reaches_56 {D : rw_D} {p : Program} {l : Launch} {e : Env} {s : State} {m : MethodId} {args : Array Value} {below : List Frame} {meth : Method} {c : Code} {G : GG} {ad : Nat → Nat} {hp0 : HP} {b : Nat} (hb : NB D b) (X : CX p s m args meth c cX1_reaches 9 RX1 none G) {N : Nat}  {k : RM → Option RM} {out : RM} : ∀ (n : Nat) (M : RM) (H : Heap) (locs : List Loc) (ls : Array Slot) (hE : f_X1_reaches_L56 b N  k n M = some out) (hM : RW G D ad hp0 M H locs) (hl : lv_has ls 9 [(0, .ref (ad (b + 20)))]) (hk : ∀ (M : RM) (H : Heap) (locs : List Loc) (ls : Array Slot), RW G D ad hp0 M H locs → lv_has ls 9 [(0, .ref (ad (b + 20)))] → k M = some out → W p l e (rmD 7) s m args below meth c H locs 0 0 (QR below G D ad hp0 args s none out) (F0 m 201 ls [])), W p l e (rmD 7) s m args below meth c H locs 0 0 (QR below G D ad hp0 args s none out) (F0 m 56 ls []) := by
  intro n
  induction n with
  | zero =>
    intro M H locs ls hE hM hl hk
    unfold f_X1_reaches_L56 at hE
    cases hE
  | succ n ih =>
    intro M H locs ls hE hM hl hk
    unfold f_X1_reaches_L56 at hE
    refine e_aload_n X hl 0 rfl dX1_reaches_56 rfl ?_
    refine r_getR X hM ck_X1 (b + 20) 11 (dn hb 20 rfl) rfl (by decide) q681 rfl dX1_reaches_57 ?_
    obtain ⟨v11, h, hE⟩ := ob_some hE
    refine r_callU1 X hM (b + 11) (dn hb 11 rfl) ck_J5 (rest := []) (met_J0_isEmpty l G ad hp0 b hb M h) (cw_U X 0 q2169 q2170 q2172 q2173 q128 q2174 q2171 (by decide +kernel) (by decide) (by decide)) rfl hl.1 rfl (Nat.le_of_ble_eq_true rfl) dX1_reaches_60 ⟨Nat.le_refl _, Nat.le_refl _⟩ (fun H locs hM => ?_)
    refine e_if_ne X (w32 v11) rfl hE dX1_reaches_63 rfl (fun hE => ?_) (fun hE => ?_)
    · exact hk M _ _ _ hM (lv_sub hl [0] rfl) hE
    · refine e_aload_n X hl 0 rfl dX1_reaches_66 rfl ?_
      refine r_getR X hM ck_X1 (b + 20) 11 (dn hb 20 rfl) rfl (by decide) q681 rfl dX1_reaches_67 ?_
      obtain ⟨v12, M13, h, hE⟩ := ob2_some hE
      refine r_callV1 X hM (b + 11) (dn hb 11 rfl) ck_J5 (rest := []) (met_J5_poll l G ad hp0 b hb M h) (cwV 0 X.ht (lw_V q2199 q2200 q2201 q134 q2202) rfl rfl rfl hd_J5_poll (cxR (by decide) (by decide))) rfl hl.1 rfl (Nat.le_of_ble_eq_true rfl) dX1_reaches_70 ⟨Nat.le_refl _, Nat.le_refl _⟩ (fun H locs hM => ?_)
      refine e_deref hE (fun o14 ho14 hE => ?_)
      refine r_castS X hM ck_X2 (dpl hb ho14) q246 dX1_reaches_73 ?_
      refine e_astore_n X hl [(2, .ref (ad o14)), (0, .ref (ad (b + 20)))] dX1_reaches_76 rfl (by decide) rfl (fun ls hl => ?_)
      refine e_aload_n X hl 0 rfl dX1_reaches_77 rfl ?_
      refine e_iconst X dX1_reaches_78 ?_
      refine r_putNZ X hM ck_X2 o14 4 (dpl hb ho14) rfl (by decide) q647 rfl rfl hE (by decide) rfl dX1_reaches_79 (fun M15 hE H locs hM => ?_)
      refine e_iconst X dX1_reaches_82 ?_
      refine e_istore_n X hl [(3, vI 0), (2, .ref (ad o14)), (0, .ref (ad (b + 20)))] dX1_reaches_83 rfl (by decide) rfl (fun ls hl => ?_)
      refine wl_X1_reaches_84 hb X (dpl hb ho14) _ M15 0 _ _ _ hE hM (lv_sub hl [2, 1, 0] rfl) (fun M31 v32 H locs ls hM hl hE => ?_)
      refine e_goto X dX1_reaches_198 rfl ?_
      exact ih M31 _ _ _ hE hM (lv_sub hl [0] rfl) hk
theorem wb_X1_reaches {D : rw_D} {p : Program} {l : Launch} {e : Env} {s : State} {m : MethodId} {args : Array Value} {below : List Frame} {meth : Method} {c : Code} {G : GG} {ad : Nat → Nat} {hp0 : HP} {b : Nat} (hb : NB D b) (X : CX p s m args meth c cX1_reaches 9 RX1 none G) {N : Nat} {M : RM} {a1 : Int}  {out : RM} (hE : f_X1_reaches b N M a1 = some out) {H : Heap} {locs : List Loc} {ls : Array Slot} (hM : RW G D ad hp0 M H locs) (hl : lv_has ls 9 [(0, .ref (ad (b + 20))), (1, vI a1)]) : W p l e (rmD 7) s m args below meth c H locs 0 0 (QR below G D ad hp0 args s none out) (F0 m 0 ls []) := by
  unfold f_X1_reaches at hE
  refine e_aload_n X hl 0 rfl dX1_reaches_0 rfl ?_
  refine r_getR X hM ck_X1 (b + 20) 11 (dn hb 20 rfl) rfl (by decide) q681 rfl dX1_reaches_1 ?_
  obtain ⟨M1, h, hE⟩ := ob_some hE
  refine r_callV0 X hM (b + 11) (dn hb 11 rfl) ck_J5 (rest := []) (met_J5_clear l G ad hp0 b hb M h) (cwV 0 X.ht (lw_V q2099 q2100 q2101 q134 q2102) rfl rfl rfl hd_J5_clear (cxR (by decide) (by decide))) rfl hl.1 rfl (Nat.le_of_ble_eq_true rfl) dX1_reaches_4 ⟨Nat.le_refl _, Nat.le_refl _⟩ (fun H locs hM => ?_)
  refine e_aload_n X hl 0 rfl dX1_reaches_7 rfl ?_
  refine r_getR X hM ck_X1 (b + 20) 10 (dn hb 20 rfl) rfl (by decide) q680 rfl dX1_reaches_8 ?_
  refine e_astore_n X hl [(2, .ref (ad (b + 10))), (0, .ref (ad (b + 20))), (1, vI a1)] dX1_reaches_11 rfl (by decide) rfl (fun ls hl => ?_)
  refine e_aload_n X hl 0 rfl dX1_reaches_12 rfl ?_
  refine r_alen X hM (b + 10) (dn hb 10 rfl) (fun _ => rfl) dX1_reaches_13 ?_
  refine e_top hE (fun v2 hE => ?_)
  refine e_istore_n X hl [(3, vI v2), (2, .ref (ad (b + 10))), (0, .ref (ad (b + 20))), (1, vI a1)] dX1_reaches_14 rfl (by decide) rfl (fun ls hl => ?_)
  refine e_iconst X dX1_reaches_15 ?_
  refine e_istore X hl [(4, vI 0), (3, vI v2), (2, .ref (ad (b + 10))), (0, .ref (ad (b + 20))), (1, vI a1)] dX1_reaches_16 (by decide) rfl (fun ls hl => ?_)
  refine wl_X1_reaches_18 hb X _ M1 0 _ _ _ hE hM (lv_sub hl [3, 4, 2, 1, 0] rfl) (fun M8 v9 H locs ls hM hl hE => ?_)
  refine e_aload_n X hl 0 rfl dX1_reaches_48 rfl ?_
  refine e_iload_n X hl 1 rfl dX1_reaches_49 rfl ?_
  refine e_lconst X 0 dX1_reaches_50 (by decide) ?_
  refine e_lconst X 0 dX1_reaches_51 (by decide) ?_
  refine e_iconst X dX1_reaches_52 ?_
  obtain ⟨M10, h, hE⟩ := ob_some hE
  refine r_callV0 X hM (b + 20) (dn hb 20 rfl) ck_X1 (rest := []) (met_X1_near l G ad hp0 b hb M8 a1 0 0 (-1) h) (cwV 4 X.ht (lw_V q2103 q2105 qs43 q132 q2106) rfl rfl rfl hd_X1_near (cxR (by decide) (by decide))) rfl hl.1 rfl (Nat.le_of_ble_eq_true rfl) dX1_reaches_53 ⟨Nat.le_refl _, Nat.le_refl _⟩ (fun H locs hM => ?_)
  refine wl_X1_reaches_56 hb X _ M10 _ _ _ hE hM (lv_sub hl [0] rfl) (fun M33 H locs ls hM hl hE => ?_)
  cases hE
  exact r_vret X hM dX1_reaches_201
theorem met_X1_reaches (l : Launch) (G : GG) (ad : Nat → Nat) (hp0 : HP) {D : rw_D} (b : Nat) (hb : NB D b) {N : Nat} (M : RM) (a1 : Int)  {out : RM} (hE : f_X1_reaches b N M a1 = some out) : MR l yX1_reaches (ws_ yX1_reaches cX1_reaches 9 none) 7 G D ad hp0 [.ref (ad (b + 20)), vI a1] M none out :=
  MR.of (by decide +kernel) (Nat.le_of_ble_eq_true rfl) rfl (fun p e s m below meth c ls X hM hl => wb_X1_reaches hb X hE hM hl)
def f_X1_nearestWanting_L5 (b : Nat) (N : Nat) (M0 : RM)  (k : Int → Int → Option Int) : Nat → Int → Int → Option Int
  | 0, _, _ => none
  | n + 1, x1, x2 =>
    if w32 (M0 (b + 20) 12) ≤ w32 x2 then (k x1 x2) else (ob (gA 8 M0 (b + 7) x2) fun v1 => jn (fun (v3 : Int) => jn (fun (v5 : Int) => jn (x2 + 1) fun v6 => f_X1_nearestWanting_L5 b N M0  k n v5 v6) fun kj4 => if w32 v3 = 0 then (kj4 x1) else (if w32 x1 = (-5) then (kj4 x2) else (ob (gA 8 M0 (b + 10) x2) fun v7 => ob (dr (b + 21) 8 v7) fun o8 => ob (gA 8 M0 (b + 10) x1) fun v9 => ob (dr (b + 21) 8 v9) fun o10 => ob (f_X2_compareTo_2 o8 M0 o10) fun v11 => if 0 ≤ w32 v11 then (kj4 x1) else (kj4 x2)))) fun kj2 => if 0 ≤ w32 v1 then (kj2 0) else (ob (gA 8 M0 (b + 10) x2) fun v12 => ob (dr (b + 21) 8 v12) fun o13 => if w32 (M0 o13 3) = 0 then (kj2 0) else (kj2 1)))
def f_X1_nearestWanting (b : Nat) (N : Nat) (M0 : RM)  : Option Int :=
  f_X1_nearestWanting_L5 b N M0  (fun (v14 : Int) (v15 : Int) => some v14) N (-5) 0
theorem hd_X1_nearestWanting : yX1_nearestWanting.cls = RX1 ∧ yX1_nearestWanting.cls ≠ "java/lang/invoke/MethodHandle" ∧ yX1_nearestWanting.cls ≠ "java/lang/invoke/VarHandle" ∧ (parseMethodDescriptor yX1_nearestWanting.desc).map (fun d => d.parameters.length) = some 0 := by decide +kernel
theorem wl_X1_nearestWanting_5 {D : rw_D} {p : Program} {l : Launch} {e : Env} {s : State} {m : MethodId} {args : Array Value} {below : List Frame} {meth : Method} {c : Code} {G : GG} {ad : Nat → Nat} {hp0 : HP} {M0 : RM} {b : Nat} (hb : NB D b) (X : CX p s m args meth c cX1_nearestWanting 4 RX1 (some .int) G) {N : Nat}  {k : Int → Int → Option Int} {out : Int} : ∀ (n : Nat) (x1 : Int) (x2 : Int) (H : Heap) (locs : List Loc) (ls : Array Slot) (hE : f_X1_nearestWanting_L5 b N M0  k n x1 x2 = some out) (hM : RW G D ad hp0 M0 H locs) (hl : lv_has ls 4 [(0, .ref (ad (b + 20))), (1, vI x1), (2, vI x2)]) (hk : ∀ (x1 : Int) (x2 : Int) (H : Heap) (locs : List Loc) (ls : Array Slot), RW G D ad hp0 M0 H locs → lv_has ls 4 [(0, .ref (ad (b + 20))), (1, vI x1), (2, vI x2)] → k x1 x2 = some out → W p l e (rmD 1) s m args below meth c H locs 0 0 (QR below G D ad hp0 args s (some (vI out)) M0) (F0 m 76 ls [])), W p l e (rmD 1) s m args below meth c H locs 0 0 (QR below G D ad hp0 args s (some (vI out)) M0) (F0 m 5 ls []) := by
  intro n
  induction n with
  | zero =>
    intro x1 x2 H locs ls hE hM hl hk
    unfold f_X1_nearestWanting_L5 at hE
    cases hE
  | succ n ih =>
    intro x1 x2 H locs ls hE hM hl hk
    unfold f_X1_nearestWanting_L5 at hE
    refine e_iload_n X hl 2 rfl dX1_nearestWanting_5 rfl ?_
    refine e_aload_n X hl 0 rfl dX1_nearestWanting_6 rfl ?_
    refine r_getI X hM ck_X1 (b + 20) 12 (dn hb 20 rfl) rfl (by decide) q683 rfl dX1_nearestWanting_7 ?_
    refine e_icmp_ge X (w32 x2) (w32 (M0 (b + 20) 12)) rfl rfl hE dX1_nearestWanting_10 rfl (fun hE => ?_) (fun hE => ?_)
    · exact hk x1 x2 _ _ _ hM (lv_sub hl [0, 1, 2] rfl) hE
    · refine e_aload_n X hl 0 rfl dX1_nearestWanting_13 rfl ?_
      refine r_getR X hM ck_X1 (b + 20) 7 (dn hb 20 rfl) rfl (by decide) q676 rfl dX1_nearestWanting_14 ?_
      refine e_iload_n X hl 2 rfl dX1_nearestWanting_17 rfl ?_
      refine r_iald X hM (b + 7) (dn hb 7 rfl) (Nat.le_of_ble_eq_true rfl) hE dX1_nearestWanting_18 (fun v1 hE => ?_)
      obtain ⟨kj2, hkj2, hE⟩ := jn_ex hE
      have hjkj2 : ∀ (v3 : Int) (H : Heap) (locs : List Loc) (ls : Array Slot), RW G D ad hp0 M0 H locs → lv_has ls 4 [(0, .ref (ad (b + 20))), (1, vI x1), (2, vI x2)] → kj2 v3 = some out → W p l e (rmD 1) s m args below meth c H locs 0 0 (QR below G D ad hp0 args s (some (vI out)) M0) (F0 m 39 ls [vI v3]) := by
        intro v3 H locs ls hM hl hE
        subst hkj2
        refine e_istore_n X hl [(3, vI v3), (0, .ref (ad (b + 20))), (1, vI x1), (2, vI x2)] dX1_nearestWanting_39 rfl (by decide) rfl (fun ls hl => ?_)
        refine e_iload_n X hl 0 rfl dX1_nearestWanting_40 rfl ?_
        obtain ⟨kj4, hkj4, hE⟩ := jn_ex hE
        have hjkj4 : ∀ (v5 : Int) (H : Heap) (locs : List Loc) (ls : Array Slot), RW G D ad hp0 M0 H locs → lv_has ls 4 [(0, .ref (ad (b + 20))), (1, vI v5), (2, vI x2)] → kj4 v5 = some out → W p l e (rmD 1) s m args below meth c H locs 0 0 (QR below G D ad hp0 args s (some (vI out)) M0) (F0 m 70 ls []) := by
          intro v5 H locs ls hM hl hE
          subst hkj4
          refine e_iinc X hl 2 hE (fun v6 => [(2, vI v6), (0, .ref (ad (b + 20))), (1, vI v5)]) rfl dX1_nearestWanting_70 (by decide) (fun _ => rfl) (fun v6 hE ls hl => ?_)
          refine e_goto X dX1_nearestWanting_73 rfl ?_
          exact ih v5 v6 _ _ _ hE hM (lv_sub hl [1, 2, 0] rfl) hk
        refine e_if_eq X (w32 v3) rfl hE dX1_nearestWanting_41 rfl (fun hE => ?_) (fun hE => ?_)
        · exact hjkj4 x1 _ _ _ hM (lv_sub hl [1, 2, 3] rfl) hE
        · refine e_iload_n X hl 2 rfl dX1_nearestWanting_44 rfl ?_
          refine e_bipush X dX1_nearestWanting_45 (by decide) ?_
          refine e_icmp_eq X (w32 x1) (-5) rfl (by decide) hE dX1_nearestWanting_47 rfl (fun hE => ?_) (fun hE => ?_)
          · refine e_iload_n X hl 3 rfl dX1_nearestWanting_68 rfl ?_
            refine e_istore_n X hl [(1, vI x2), (3, vI v3), (0, .ref (ad (b + 20))), (2, vI x2)] dX1_nearestWanting_69 rfl (by decide) rfl (fun ls hl => ?_)
            exact hjkj4 x2 _ _ _ hM (lv_sub hl [2, 0, 3] rfl) hE
          · refine e_aload_n X hl 1 rfl dX1_nearestWanting_50 rfl ?_
            refine r_getR X hM ck_X1 (b + 20) 10 (dn hb 20 rfl) rfl (by decide) q680 rfl dX1_nearestWanting_51 ?_
            refine e_iload_n X hl 3 rfl dX1_nearestWanting_54 rfl ?_
            refine r_aald X hM (b + 10) (dn hb 10 rfl) (fun _ => rfl) (fun _ => rfl) (Nat.le_of_ble_eq_true rfl) hE dX1_nearestWanting_55 (fun v7 hE => ?_)
            refine e_deref hE (fun o8 ho8 hE => ?_)
            refine e_aload_n X hl 1 rfl dX1_nearestWanting_56 rfl ?_
            refine r_getR X hM ck_X1 (b + 20) 10 (dn hb 20 rfl) rfl (by decide) q680 rfl dX1_nearestWanting_57 ?_
            refine e_iload_n X hl 2 rfl dX1_nearestWanting_60 rfl ?_
            refine r_aald X hM (b + 10) (dn hb 10 rfl) (fun _ => rfl) (fun _ => rfl) (Nat.le_of_ble_eq_true rfl) hE dX1_nearestWanting_61 (fun v9 hE => ?_)
            refine e_deref hE (fun o10 ho10 hE => ?_)
            obtain ⟨v11, h, hE⟩ := ob_some hE
            refine r_callV1 X hM o8 (dpl hb ho8) ck_X2 (rest := []) (met_X2_compareTo_2 l G ad hp0 o8 (dpl hb ho8) M0 o10 (dpl hb ho10) h) (cwV 1 X.ht (lw_V q2230 q1674 q1675 q152 q1676) rfl rfl rfl hd_X2_compareTo_2 (cxR (by decide) (by decide))) rfl hl.1 rfl (Nat.le_of_ble_eq_true rfl) dX1_nearestWanting_62 ⟨Nat.le_refl _, Nat.le_refl _⟩ (fun H locs hM => ?_)
            refine e_if_ge X (w32 v11) rfl hE dX1_nearestWanting_65 rfl (fun hE => ?_) (fun hE => ?_)
            · exact hjkj4 x1 _ _ _ hM (lv_sub hl [1, 2, 3] rfl) hE
            · refine e_iload_n X hl 3 rfl dX1_nearestWanting_68 rfl ?_
              refine e_istore_n X hl [(1, vI x2), (3, vI v3), (0, .ref (ad (b + 20))), (2, vI x2)] dX1_nearestWanting_69 rfl (by decide) rfl (fun ls hl => ?_)
              exact hjkj4 x2 _ _ _ hM (lv_sub hl [2, 0, 3] rfl) hE
      refine e_if_ge X (w32 v1) rfl hE dX1_nearestWanting_19 rfl (fun hE => ?_) (fun hE => ?_)
      · refine e_iconst X dX1_nearestWanting_38 ?_
        exact hjkj2 0 _ _ _ hM (lv_sub hl [0, 1, 2] rfl) hE
      · refine e_aload_n X hl 0 rfl dX1_nearestWanting_22 rfl ?_
        refine r_getR X hM ck_X1 (b + 20) 10 (dn hb 20 rfl) rfl (by decide) q680 rfl dX1_nearestWanting_23 ?_
        refine e_iload_n X hl 2 rfl dX1_nearestWanting_26 rfl ?_
        refine r_aald X hM (b + 10) (dn hb 10 rfl) (fun _ => rfl) (fun _ => rfl) (Nat.le_of_ble_eq_true rfl) hE dX1_nearestWanting_27 (fun v12 hE => ?_)
        refine e_deref hE (fun o13 ho13 hE => ?_)
        refine r_getNI X hM ck_X2 o13 3 (dpl hb ho13) rfl (by decide) q646 rfl dX1_nearestWanting_28 ?_
        refine e_if_eq X (w32 (M0 o13 3)) rfl hE dX1_nearestWanting_31 rfl (fun hE => ?_) (fun hE => ?_)
        · refine e_iconst X dX1_nearestWanting_38 ?_
          exact hjkj2 0 _ _ _ hM (lv_sub hl [0, 1, 2] rfl) hE
        · refine e_iconst X dX1_nearestWanting_34 ?_
          refine e_goto X dX1_nearestWanting_35 rfl ?_
          exact hjkj2 1 _ _ _ hM (lv_sub hl [0, 1, 2] rfl) hE
theorem wb_X1_nearestWanting {D : rw_D} {p : Program} {l : Launch} {e : Env} {s : State} {m : MethodId} {args : Array Value} {below : List Frame} {meth : Method} {c : Code} {G : GG} {ad : Nat → Nat} {hp0 : HP} {M0 : RM} {b : Nat} (hb : NB D b) (X : CX p s m args meth c cX1_nearestWanting 4 RX1 (some .int) G) {N : Nat}  {out : Int} (hE : f_X1_nearestWanting b N M0 = some out) {H : Heap} {locs : List Loc} {ls : Array Slot} (hM : RW G D ad hp0 M0 H locs) (hl : lv_has ls 4 [(0, .ref (ad (b + 20)))]) : W p l e (rmD 1) s m args below meth c H locs 0 0 (QR below G D ad hp0 args s (some (vI out)) M0) (F0 m 0 ls []) := by
  unfold f_X1_nearestWanting at hE
  refine e_bipush X dX1_nearestWanting_0 (by decide) ?_
  refine e_istore_n X hl [(1, vI (-5)), (0, .ref (ad (b + 20)))] dX1_nearestWanting_2 rfl (by decide) rfl (fun ls hl => ?_)
  refine e_iconst X dX1_nearestWanting_3 ?_
  refine e_istore_n X hl [(2, vI 0), (1, vI (-5)), (0, .ref (ad (b + 20)))] dX1_nearestWanting_4 rfl (by decide) rfl (fun ls hl => ?_)
  refine wl_X1_nearestWanting_5 hb X _ (-5) 0 _ _ _ hE hM (lv_sub hl [2, 1, 0] rfl) (fun v14 v15 H locs ls hM hl hE => ?_)
  refine e_iload_n X hl 1 rfl dX1_nearestWanting_76 rfl ?_
  cases hE
  exact r_zret X hM rfl dX1_nearestWanting_77
theorem met_X1_nearestWanting (l : Launch) (G : GG) (ad : Nat → Nat) (hp0 : HP) {D : rw_D} (b : Nat) (hb : NB D b) {N : Nat} (M0 : RM)   {out : Int} (hE : f_X1_nearestWanting b N M0 = some out) : MR l yX1_nearestWanting (ws_ yX1_nearestWanting cX1_nearestWanting 4 (some .int)) 1 G D ad hp0 [.ref (ad (b + 20))] M0 (some (vI out)) M0 :=
  MR.of (by decide +kernel) (Nat.le_of_ble_eq_true rfl) rfl (fun p e s m below meth c ls X hM hl => wb_X1_nearestWanting hb X hE hM hl)
def f_X1_prices_L24 (b : Nat) (N : Nat) (b2 : Int) (b4 : Int) (k : RM → Int → Option RM) : Nat → RM → Int → Option RM
  | 0, _, _ => none
  | n + 1, M, x6 =>
    if w32 (M (b + 20) 12) ≤ w32 x6 then (k M x6) else (ob (gA 8 M (b + 10) x6) fun v7 => ob (dr (b + 21) 8 v7) fun o8 => jn (fun (v10 : Int) => ob (gA 8 M (b + 8) x6) fun v11 => jn (fun (v13 : Int) => ob (sA 8 M (b + 8) x6 (v11 + v13)) fun M14 => ob (gA 8 M14 (b + 9) x6) fun v15 => jn (fun (v17 : Int) => ob (sA 8 M14 (b + 9) x6 (v15 + v17)) fun M18 => jn (x6 + 1) fun v19 => f_X1_prices_L24 b N b2 b4 k n M18 v19) fun kj16 => if w32 v10 = 0 then (kj16 b4) else (kj16 (M14 o8 2))) fun kj12 => if w32 v10 = 0 then (kj12 b2) else (kj12 (M o8 1))) fun kj9 => if w32 (M o8 3) = 0 then (kj9 0) else (ob (f_X2_isNearer o8 M b2 b4) fun v20 => if ¬ w32 v20 = 0 then (kj9 0) else (kj9 1)))
def f_X1_prices (b : Nat) (N : Nat) (M : RM) (a1 : Int) : Option RM :=
  ob (gA 8 M (b + 10) a1) fun v1 => ob (dr (b + 21) 8 v1) fun o2 => jn (M o2 1) fun v3 => ob (gA 8 M (b + 10) a1) fun v4 => ob (dr (b + 21) 8 v4) fun o5 => jn (M o5 2) fun v6 => f_X1_prices_L24 b N v3 v6 (fun (M21 : RM) (v22 : Int) => some M21) N M 0
theorem hd_X1_prices : yX1_prices.cls = RX1 ∧ yX1_prices.cls ≠ "java/lang/invoke/MethodHandle" ∧ yX1_prices.cls ≠ "java/lang/invoke/VarHandle" ∧ (parseMethodDescriptor yX1_prices.desc).map (fun d => d.parameters.length) = some 1 := by decide +kernel
theorem wl_X1_prices_24 {D : rw_D} {p : Program} {l : Launch} {e : Env} {s : State} {m : MethodId} {args : Array Value} {below : List Frame} {meth : Method} {c : Code} {G : GG} {ad : Nat → Nat} {hp0 : HP} {b : Nat} (hb : NB D b) (X : CX p s m args meth c cX1_prices 9 RX1 none G) {N : Nat} {b2 : Int} {b4 : Int} {k : RM → Int → Option RM} {out : RM} : ∀ (n : Nat) (M : RM) (x6 : Int) (H : Heap) (locs : List Loc) (ls : Array Slot) (hE : f_X1_prices_L24 b N b2 b4 k n M x6 = some out) (hM : RW G D ad hp0 M H locs) (hl : lv_has ls 9 [(0, .ref (ad (b + 20))), (2, vL b2), (4, vL b4), (6, vI x6)]) (hk : ∀ (M : RM) (x6 : Int) (H : Heap) (locs : List Loc) (ls : Array Slot), RW G D ad hp0 M H locs → lv_has ls 9 [(0, .ref (ad (b + 20))), (2, vL b2), (4, vL b4), (6, vI x6)] → k M x6 = some out → W p l e (rmD 1) s m args below meth c H locs 0 0 (QR below G D ad hp0 args s none out) (F0 m 123 ls [])), W p l e (rmD 1) s m args below meth c H locs 0 0 (QR below G D ad hp0 args s none out) (F0 m 24 ls []) := by
  intro n
  induction n with
  | zero =>
    intro M x6 H locs ls hE hM hl hk
    unfold f_X1_prices_L24 at hE
    cases hE
  | succ n ih =>
    intro M x6 H locs ls hE hM hl hk
    unfold f_X1_prices_L24 at hE
    refine e_iload X hl 3 rfl dX1_prices_24 ?_
    refine e_aload_n X hl 0 rfl dX1_prices_26 rfl ?_
    refine r_getI X hM ck_X1 (b + 20) 12 (dn hb 20 rfl) rfl (by decide) q683 rfl dX1_prices_27 ?_
    refine e_icmp_ge X (w32 x6) (w32 (M (b + 20) 12)) rfl rfl hE dX1_prices_30 rfl (fun hE => ?_) (fun hE => ?_)
    · exact hk M x6 _ _ _ hM (lv_sub hl [0, 1, 2, 3] rfl) hE
    · refine e_aload_n X hl 0 rfl dX1_prices_33 rfl ?_
      refine r_getR X hM ck_X1 (b + 20) 10 (dn hb 20 rfl) rfl (by decide) q680 rfl dX1_prices_34 ?_
      refine e_iload X hl 3 rfl dX1_prices_37 ?_
      refine r_aald X hM (b + 10) (dn hb 10 rfl) (fun _ => rfl) (fun _ => rfl) (Nat.le_of_ble_eq_true rfl) hE dX1_prices_39 (fun v7 hE => ?_)
      refine e_deref hE (fun o8 ho8 hE => ?_)
      refine e_astore X hl [(7, .ref (ad o8)), (0, .ref (ad (b + 20))), (2, vL b2), (4, vL b4), (6, vI x6)] dX1_prices_40 (by decide) rfl (fun ls hl => ?_)
      refine e_aload X hl 0 rfl dX1_prices_42 ?_
      refine r_getNI X hM ck_X2 o8 3 (dpl hb ho8) rfl (by decide) q646 rfl dX1_prices_44 ?_
      obtain ⟨kj9, hkj9, hE⟩ := jn_ex hE
      have hjkj9 : ∀ (v10 : Int) (H : Heap) (locs : List Loc) (ls : Array Slot), RW G D ad hp0 M H locs → lv_has ls 9 [(0, .ref (ad (b + 20))), (2, vL b2), (4, vL b4), (6, vI x6), (7, .ref (ad o8))] → kj9 v10 = some out → W p l e (rmD 1) s m args below meth c H locs 0 0 (QR below G D ad hp0 args s none out) (F0 m 66 ls [vI v10]) := by
        intro v10 H locs ls hM hl hE
        subst hkj9
        refine e_istore X hl [(8, vI v10), (0, .ref (ad (b + 20))), (2, vL b2), (4, vL b4), (6, vI x6), (7, .ref (ad o8))] dX1_prices_66 (by decide) rfl (fun ls hl => ?_)
        refine e_aload_n X hl 1 rfl dX1_prices_68 rfl ?_
        refine r_getR X hM ck_X1 (b + 20) 8 (dn hb 20 rfl) rfl (by decide) q678 rfl dX1_prices_69 ?_
        refine e_iload X hl 4 rfl dX1_prices_72 ?_
        refine e_dup2 X dX1_prices_74 rfl rfl ?_
        refine r_lald X hM (b + 8) (dn hb 8 rfl) (Nat.le_of_ble_eq_true rfl) hE dX1_prices_75 (fun v11 hE => ?_)
        refine e_iload X hl 0 rfl dX1_prices_76 ?_
        obtain ⟨kj12, hkj12, hE⟩ := jn_ex hE
        have hjkj12 : ∀ (v13 : Int) (H : Heap) (locs : List Loc) (ls : Array Slot), RW G D ad hp0 M H locs → lv_has ls 9 [(0, .ref (ad (b + 20))), (2, vL b2), (4, vL b4), (6, vI x6), (7, .ref (ad o8)), (8, vI v10)] → kj12 v13 = some out → W p l e (rmD 1) s m args below meth c H locs 0 0 (QR below G D ad hp0 args s none out) (F0 m 90 ls [vL v13, vL v11, vI x6, .ref (ad (b + 8))]) := by
          intro v13 H locs ls hM hl hE
          subst hkj12
          refine e_ladd X dX1_prices_90 ?_
          refine r_last X hM (b + 8) (dn hb 8 rfl) (Nat.le_of_ble_eq_true rfl) hE dX1_prices_91 (fun M14 hE H locs hM => ?_)
          refine e_aload_n X hl 0 rfl dX1_prices_92 rfl ?_
          refine r_getR X hM ck_X1 (b + 20) 9 (dn hb 20 rfl) rfl (by decide) q679 rfl dX1_prices_93 ?_
          refine e_iload X hl 3 rfl dX1_prices_96 ?_
          refine e_dup2 X dX1_prices_98 rfl rfl ?_
          refine r_lald X hM (b + 9) (dn hb 9 rfl) (Nat.le_of_ble_eq_true rfl) hE dX1_prices_99 (fun v15 hE => ?_)
          refine e_iload X hl 5 rfl dX1_prices_100 ?_
          obtain ⟨kj16, hkj16, hE⟩ := jn_ex hE
          have hjkj16 : ∀ (v17 : Int) (H : Heap) (locs : List Loc) (ls : Array Slot), RW G D ad hp0 M14 H locs → lv_has ls 9 [(0, .ref (ad (b + 20))), (2, vL b2), (4, vL b4), (6, vI x6)] → kj16 v17 = some out → W p l e (rmD 1) s m args below meth c H locs 0 0 (QR below G D ad hp0 args s none out) (F0 m 115 ls [vL v17, vL v15, vI x6, .ref (ad (b + 9))]) := by
            intro v17 H locs ls hM hl hE
            subst hkj16
            refine e_ladd X dX1_prices_115 ?_
            refine r_last X hM (b + 9) (dn hb 9 rfl) (Nat.le_of_ble_eq_true rfl) hE dX1_prices_116 (fun M18 hE H locs hM => ?_)
            refine e_iinc X hl 3 hE (fun v19 => [(6, vI v19), (0, .ref (ad (b + 20))), (2, vL b2), (4, vL b4)]) rfl dX1_prices_117 (by decide) (fun _ => rfl) (fun v19 hE ls hl => ?_)
            refine e_goto X dX1_prices_120 rfl ?_
            exact ih M18 v19 _ _ _ hE hM (lv_sub hl [1, 2, 3, 0] rfl) hk
          refine e_if_eq X (w32 v10) rfl hE dX1_prices_102 rfl (fun hE => ?_) (fun hE => ?_)
          · refine e_lload X hl 2 rfl dX1_prices_113 ?_
            exact hjkj16 b4 _ _ _ hM (lv_sub hl [0, 1, 2, 3] rfl) hE
          · refine e_aload X hl 4 rfl dX1_prices_105 ?_
            refine r_getNJ X hM ck_X2 o8 2 (dpl hb ho8) rfl (by decide) q645 rfl dX1_prices_107 ?_
            refine e_goto X dX1_prices_110 rfl ?_
            exact hjkj16 (M14 o8 2) _ _ _ hM (lv_sub hl [0, 1, 2, 3] rfl) hE
        refine e_if_eq X (w32 v10) rfl hE dX1_prices_78 rfl (fun hE => ?_) (fun hE => ?_)
        · refine e_lload_n X hl 2 rfl dX1_prices_89 rfl ?_
          exact hjkj12 b2 _ _ _ hM (lv_sub hl [1, 2, 3, 4, 5, 0] rfl) hE
        · refine e_aload X hl 5 rfl dX1_prices_81 ?_
          refine r_getNJ X hM ck_X2 o8 1 (dpl hb ho8) rfl (by decide) q643 rfl dX1_prices_83 ?_
          refine e_goto X dX1_prices_86 rfl ?_
          exact hjkj12 (M o8 1) _ _ _ hM (lv_sub hl [1, 2, 3, 4, 5, 0] rfl) hE
      refine e_if_eq X (w32 (M o8 3)) rfl hE dX1_prices_47 rfl (fun hE => ?_) (fun hE => ?_)
      · refine e_iconst X dX1_prices_65 ?_
        exact hjkj9 0 _ _ _ hM (lv_sub hl [1, 2, 3, 4, 0] rfl) hE
      · refine e_aload X hl 0 rfl dX1_prices_50 ?_
        refine e_lload_n X hl 2 rfl dX1_prices_52 rfl ?_
        refine e_lload X hl 3 rfl dX1_prices_53 ?_
        obtain ⟨v20, h, hE⟩ := ob_some hE
        refine r_callV1 X hM o8 (dpl hb ho8) ck_X2 (rest := []) (met_X2_isNearer l G ad hp0 o8 (dpl hb ho8) M b2 b4 h) (cwV 2 X.ht (lw_V q2107 q2108 q2109 q152 q2110) rfl rfl rfl hd_X2_isNearer (cxR (by decide) (by decide))) rfl hl.1 rfl (Nat.le_of_ble_eq_true rfl) dX1_prices_55 ⟨Nat.le_refl _, Nat.le_refl _⟩ (fun H locs hM => ?_)
        refine e_if_ne X (w32 v20) rfl hE dX1_prices_58 rfl (fun hE => ?_) (fun hE => ?_)
        · refine e_iconst X dX1_prices_65 ?_
          exact hjkj9 0 _ _ _ hM (lv_sub hl [1, 2, 3, 4, 0] rfl) hE
        · refine e_iconst X dX1_prices_61 ?_
          refine e_goto X dX1_prices_62 rfl ?_
          exact hjkj9 1 _ _ _ hM (lv_sub hl [1, 2, 3, 4, 0] rfl) hE
theorem wb_X1_prices {D : rw_D} {p : Program} {l : Launch} {e : Env} {s : State} {m : MethodId} {args : Array Value} {below : List Frame} {meth : Method} {c : Code} {G : GG} {ad : Nat → Nat} {hp0 : HP} {b : Nat} (hb : NB D b) (X : CX p s m args meth c cX1_prices 9 RX1 none G) {N : Nat} {M : RM} {a1 : Int}  {out : RM} (hE : f_X1_prices b N M a1 = some out) {H : Heap} {locs : List Loc} {ls : Array Slot} (hM : RW G D ad hp0 M H locs) (hl : lv_has ls 9 [(0, .ref (ad (b + 20))), (1, vI a1)]) : W p l e (rmD 1) s m args below meth c H locs 0 0 (QR below G D ad hp0 args s none out) (F0 m 0 ls []) := by
  unfold f_X1_prices at hE
  refine e_aload_n X hl 0 rfl dX1_prices_0 rfl ?_
  refine r_getR X hM ck_X1 (b + 20) 10 (dn hb 20 rfl) rfl (by decide) q680 rfl dX1_prices_1 ?_
  refine e_iload_n X hl 1 rfl dX1_prices_4 rfl ?_
  refine r_aald X hM (b + 10) (dn hb 10 rfl) (fun _ => rfl) (fun _ => rfl) (Nat.le_of_ble_eq_true rfl) hE dX1_prices_5 (fun v1 hE => ?_)
  refine e_deref hE (fun o2 ho2 hE => ?_)
  refine r_getNJ X hM ck_X2 o2 1 (dpl hb ho2) rfl (by decide) q643 rfl dX1_prices_6 ?_
  refine e_topl hE (fun v3 hE => ?_)
  refine e_lstore_n X hl [(2, vL v3), (0, .ref (ad (b + 20))), (1, vI a1)] dX1_prices_9 rfl (by decide) rfl (fun ls hl => ?_)
  refine e_aload_n X hl 1 rfl dX1_prices_10 rfl ?_
  refine r_getR X hM ck_X1 (b + 20) 10 (dn hb 20 rfl) rfl (by decide) q680 rfl dX1_prices_11 ?_
  refine e_iload_n X hl 2 rfl dX1_prices_14 rfl ?_
  refine r_aald X hM (b + 10) (dn hb 10 rfl) (fun _ => rfl) (fun _ => rfl) (Nat.le_of_ble_eq_true rfl) hE dX1_prices_15 (fun v4 hE => ?_)
  refine e_deref hE (fun o5 ho5 hE => ?_)
  refine r_getNJ X hM ck_X2 o5 2 (dpl hb ho5) rfl (by decide) q645 rfl dX1_prices_16 ?_
  refine e_topl hE (fun v6 hE => ?_)
  refine e_lstore X hl [(4, vL v6), (2, vL v3), (0, .ref (ad (b + 20))), (1, vI a1)] dX1_prices_19 (by decide) rfl (fun ls hl => ?_)
  refine e_iconst X dX1_prices_21 ?_
  refine e_istore X hl [(6, vI 0), (4, vL v6), (2, vL v3), (0, .ref (ad (b + 20))), (1, vI a1)] dX1_prices_22 (by decide) rfl (fun ls hl => ?_)
  refine wl_X1_prices_24 hb X _ M 0 _ _ _ hE hM (lv_sub hl [3, 2, 1, 0] rfl) (fun M21 v22 H locs ls hM hl hE => ?_)
  cases hE
  exact r_vret X hM dX1_prices_123
theorem met_X1_prices (l : Launch) (G : GG) (ad : Nat → Nat) (hp0 : HP) {D : rw_D} (b : Nat) (hb : NB D b) {N : Nat} (M : RM) (a1 : Int)  {out : RM} (hE : f_X1_prices b N M a1 = some out) : MR l yX1_prices (ws_ yX1_prices cX1_prices 9 none) 1 G D ad hp0 [.ref (ad (b + 20)), vI a1] M none out :=
  MR.of (by decide +kernel) (Nat.le_of_ble_eq_true rfl) rfl (fun p e s m below meth c ls X hM hl => wb_X1_prices hb X hE hM hl)
def f_X1_goes (b : Nat) (M : RM) (a1 : Int) (a2 : Int) : Option RM :=
  ob (gA 25 M (b + 5) (iDiv a1 2)) fun v1 => if ¬ w32 (iRem a1 2) = 0 then (ob (sA 25 M (b + 5) (iDiv a1 2) (v1 + (-a2))) fun M2 => some M2) else (ob (sA 25 M (b + 5) (iDiv a1 2) (v1 + a2)) fun M3 => some M3)
theorem hd_X1_goes : yX1_goes.cls = RX1 ∧ yX1_goes.cls ≠ "java/lang/invoke/MethodHandle" ∧ yX1_goes.cls ≠ "java/lang/invoke/VarHandle" ∧ (parseMethodDescriptor yX1_goes.desc).map (fun d => d.parameters.length) = some 2 := by decide +kernel
theorem wb_X1_goes {D : rw_D} {p : Program} {l : Launch} {e : Env} {s : State} {m : MethodId} {args : Array Value} {below : List Frame} {meth : Method} {c : Code} {G : GG} {ad : Nat → Nat} {hp0 : HP} {b : Nat} (hb : NB D b) (X : CX p s m args meth c cX1_goes 3 RX1 none G) {M : RM} {a1 : Int} {a2 : Int}  {out : RM} (hE : f_X1_goes b M a1 a2 = some out) {H : Heap} {locs : List Loc} {ls : Array Slot} (hM : RW G D ad hp0 M H locs) (hl : lv_has ls 3 [(0, .ref (ad (b + 20))), (1, vI a1), (2, vI a2)]) : W p l e (rmD 0) s m args below meth c H locs 0 0 (QR below G D ad hp0 args s none out) (F0 m 0 ls []) := by
  unfold f_X1_goes at hE
  refine e_aload_n X hl 0 rfl dX1_goes_0 rfl ?_
  refine r_getR X hM ck_X1 (b + 20) 5 (dn hb 20 rfl) rfl (by decide) q672 rfl dX1_goes_1 ?_
  refine e_iload_n X hl 1 rfl dX1_goes_4 rfl ?_
  refine e_iconst X dX1_goes_5 ?_
  refine e_idiv X (by decide) dX1_goes_6 ?_
  refine e_dup2 X dX1_goes_7 rfl rfl ?_
  refine r_iald X hM (b + 5) (dn hb 5 rfl) (Nat.le_of_ble_eq_true rfl) hE dX1_goes_8 (fun v1 hE => ?_)
  refine e_iload_n X hl 1 rfl dX1_goes_9 rfl ?_
  refine e_iconst X dX1_goes_10 ?_
  refine e_irem X (by decide) dX1_goes_11 ?_
  refine e_if_ne X (w32 (iRem a1 2)) rfl hE dX1_goes_12 rfl (fun hE => ?_) (fun hE => ?_)
  · refine e_iload_n X hl 2 rfl dX1_goes_19 rfl ?_
    refine e_ineg X dX1_goes_20 ?_
    refine e_iadd X dX1_goes_21 ?_
    refine r_iast X hM (b + 5) (dn hb 5 rfl) (Nat.le_of_ble_eq_true rfl) hE dX1_goes_22 (fun M2 hE H locs hM => ?_)
    cases hE
    exact r_vret X hM dX1_goes_23
  · refine e_iload_n X hl 2 rfl dX1_goes_15 rfl ?_
    refine e_goto X dX1_goes_16 rfl ?_
    refine e_iadd X dX1_goes_21 ?_
    refine r_iast X hM (b + 5) (dn hb 5 rfl) (Nat.le_of_ble_eq_true rfl) hE dX1_goes_22 (fun M3 hE H locs hM => ?_)
    cases hE
    exact r_vret X hM dX1_goes_23
theorem met_X1_goes (l : Launch) (G : GG) (ad : Nat → Nat) (hp0 : HP) {D : rw_D} (b : Nat) (hb : NB D b) (M : RM) (a1 : Int) (a2 : Int)  {out : RM} (hE : f_X1_goes b M a1 a2 = some out) : MR l yX1_goes (ws_ yX1_goes cX1_goes 3 none) 0 G D ad hp0 [.ref (ad (b + 20)), vI a1, vI a2] M none out :=
  MR.of (by decide +kernel) (Nat.le_of_ble_eq_true rfl) rfl (fun p e s m below meth c ls X hM hl => wb_X1_goes hb X hE hM hl)
def f_X1_sends_L6 (b : Nat) (N : Nat) (M : RM) (b1 : Int) (b2 : Int) (k : Int → Int → Option (Int × RM)) : Nat → Int → Int → Option (Int × RM)
  | 0, _, _ => none
  | n + 1, x4, x5 =>
    if w32 x5 = w32 b1 then (k x4 x5) else (ob (gA 8 M (b + 10) x5) fun v1 => ob (dr (b + 21) 8 v1) fun o2 => ob (f_X1_room b M (M o2 5)) fun v3 => jn (if w32 v3 < w32 x4 then v3 else x4) fun v4 => ob (gA 8 M (b + 10) x5) fun v5 => ob (dr (b + 21) 8 v5) fun o6 => ob (f_X1_stepFrom b M (M o6 5)) fun v7 => f_X1_sends_L6 b N M b1 b2 k n v4 v7)
def f_X1_sends_L55 (b : Nat) (N : Nat) (b1 : Int) (b4 : Int) (k : RM → Int → Option (Int × RM)) : Nat → RM → Int → Option (Int × RM)
  | 0, _, _ => none
  | n + 1, M, x5 =>
    if w32 x5 = w32 b1 then (k M x5) else (ob (gA 8 M (b + 10) x5) fun v10 => ob (dr (b + 21) 8 v10) fun o11 => ob (f_X1_goes b M (M o11 5) b4) fun M12 => ob (gA 8 M12 (b + 10) x5) fun v13 => ob (dr (b + 21) 8 v13) fun o14 => ob (f_X1_stepFrom b M12 (M12 o14 5)) fun v15 => f_X1_sends_L55 b N b1 b4 k n M12 v15)
def f_X1_sends (b : Nat) (N : Nat) (M : RM) (a1 : Int) (a2 : Int) (a3 : Int) : Option (Int × RM) :=
  f_X1_sends_L6 b N M a1 a2 (fun (v8 : Int) (v9 : Int) => f_X1_sends_L55 b N a1 v8 (fun (M16 : RM) (v17 : Int) => some (v8, M16)) N M a2) N a3 a2
theorem hd_X1_sends : yX1_sends.cls = RX1 ∧ yX1_sends.cls ≠ "java/lang/invoke/MethodHandle" ∧ yX1_sends.cls ≠ "java/lang/invoke/VarHandle" ∧ (parseMethodDescriptor yX1_sends.desc).map (fun d => d.parameters.length) = some 3 := by decide +kernel
theorem wl_X1_sends_6 {D : rw_D} {p : Program} {l : Launch} {e : Env} {s : State} {m : MethodId} {args : Array Value} {below : List Frame} {meth : Method} {c : Code} {G : GG} {ad : Nat → Nat} {hp0 : HP} {b : Nat} (hb : NB D b) (X : CX p s m args meth c cX1_sends 6 RX1 (some .int) G) {N : Nat} {M : RM} {b1 : Int} {b2 : Int} {k : Int → Int → Option (Int × RM)} {out : (Int × RM)} : ∀ (n : Nat) (x4 : Int) (x5 : Int) (H : Heap) (locs : List Loc) (ls : Array Slot) (hE : f_X1_sends_L6 b N M b1 b2 k n x4 x5 = some out) (hM : RW G D ad hp0 M H locs) (hl : lv_has ls 6 [(0, .ref (ad (b + 20))), (1, vI b1), (2, vI b2), (4, vI x4), (5, vI x5)]) (hk : ∀ (x4 : Int) (x5 : Int) (H : Heap) (locs : List Loc) (ls : Array Slot), RW G D ad hp0 M H locs → lv_has ls 6 [(0, .ref (ad (b + 20))), (1, vI b1), (2, vI b2), (4, vI x4), (5, vI x5)] → k x4 x5 = some out → W p l e (rmD 1) s m args below meth c H locs 0 0 (QR below G D ad hp0 args s (some (vI out.1)) out.2) (F0 m 52 ls [])), W p l e (rmD 1) s m args below meth c H locs 0 0 (QR below G D ad hp0 args s (some (vI out.1)) out.2) (F0 m 6 ls []) := by
  intro n
  induction n with
  | zero =>
    intro x4 x5 H locs ls hE hM hl hk
    unfold f_X1_sends_L6 at hE
    cases hE
  | succ n ih =>
    intro x4 x5 H locs ls hE hM hl hk
    unfold f_X1_sends_L6 at hE
    refine e_iload X hl 4 rfl dX1_sends_6 ?_
    refine e_iload_n X hl 1 rfl dX1_sends_8 rfl ?_
    refine e_icmp_eq X (w32 x5) (w32 b1) rfl rfl hE dX1_sends_9 rfl (fun hE => ?_) (fun hE => ?_)
    · exact hk x4 x5 _ _ _ hM (lv_sub hl [0, 1, 2, 3, 4] rfl) hE
    · refine e_iload X hl 3 rfl dX1_sends_12 ?_
      refine e_aload_n X hl 0 rfl dX1_sends_14 rfl ?_
      refine e_aload_n X hl 0 rfl dX1_sends_15 rfl ?_
      refine r_getR X hM ck_X1 (b + 20) 10 (dn hb 20 rfl) rfl (by decide) q680 rfl dX1_sends_16 ?_
      refine e_iload X hl 4 rfl dX1_sends_19 ?_
      refine r_aald X hM (b + 10) (dn hb 10 rfl) (fun _ => rfl) (fun _ => rfl) (Nat.le_of_ble_eq_true rfl) hE dX1_sends_21 (fun v1 hE => ?_)
      refine e_deref hE (fun o2 ho2 hE => ?_)
      refine r_getNI X hM ck_X2 o2 5 (dpl hb ho2) rfl (by decide) q648 rfl dX1_sends_22 ?_
      obtain ⟨v3, h, hE⟩ := ob_some hE
      refine r_callV1 X hM (b + 20) (dn hb 20 rfl) ck_X1 (rest := [vI x4]) (met_X1_room l G ad hp0 b hb M (M o2 5) h) (cwV 1 X.ht (lw_V q2207 q2208 q2209 q132 q2210) rfl rfl rfl hd_X1_room (cxR (by decide) (by decide))) rfl hl.1 rfl (Nat.le_of_ble_eq_true rfl) dX1_sends_25 ⟨Nat.le_refl _, Nat.le_refl _⟩ (fun H locs hM => ?_)
      refine e_min X hl.1 q2235 q442 q145 q443 (dd := 0) rfl (Nat.le_of_ble_eq_true rfl) (Nat.le_refl _) (Nat.le_refl _) dX1_sends_28 ?_
      refine e_top hE (fun v4 hE => ?_)
      refine e_istore X hl [(4, vI v4), (0, .ref (ad (b + 20))), (1, vI b1), (2, vI b2), (5, vI x5)] dX1_sends_31 (by decide) rfl (fun ls hl => ?_)
      refine e_aload_n X hl 1 rfl dX1_sends_33 rfl ?_
      refine e_aload_n X hl 1 rfl dX1_sends_34 rfl ?_
      refine r_getR X hM ck_X1 (b + 20) 10 (dn hb 20 rfl) rfl (by decide) q680 rfl dX1_sends_35 ?_
      refine e_iload X hl 4 rfl dX1_sends_38 ?_
      refine r_aald X hM (b + 10) (dn hb 10 rfl) (fun _ => rfl) (fun _ => rfl) (Nat.le_of_ble_eq_true rfl) hE dX1_sends_40 (fun v5 hE => ?_)
      refine e_deref hE (fun o6 ho6 hE => ?_)
      refine r_getNI X hM ck_X2 o6 5 (dpl hb ho6) rfl (by decide) q648 rfl dX1_sends_41 ?_
      obtain ⟨v7, h, hE⟩ := ob_some hE
      refine r_callV1 X hM (b + 20) (dn hb 20 rfl) ck_X1 (rest := []) (met_X1_stepFrom l G ad hp0 b hb M (M o6 5) h) (cwV 1 X.ht (lw_V q2203 q2204 q2205 q132 q2206) rfl rfl rfl hd_X1_stepFrom (cxR (by decide) (by decide))) rfl hl.1 rfl (Nat.le_of_ble_eq_true rfl) dX1_sends_44 ⟨Nat.le_refl _, Nat.le_refl _⟩ (fun H locs hM => ?_)
      refine e_istore X hl [(5, vI v7), (4, vI v4), (0, .ref (ad (b + 20))), (1, vI b1), (2, vI b2)] dX1_sends_47 (by decide) rfl (fun ls hl => ?_)
      refine e_goto X dX1_sends_49 rfl ?_
      exact ih v4 v7 _ _ _ hE hM (lv_sub hl [2, 3, 4, 1, 0] rfl) hk
theorem wl_X1_sends_55 {D : rw_D} {p : Program} {l : Launch} {e : Env} {s : State} {m : MethodId} {args : Array Value} {below : List Frame} {meth : Method} {c : Code} {G : GG} {ad : Nat → Nat} {hp0 : HP} {b : Nat} (hb : NB D b) (X : CX p s m args meth c cX1_sends 6 RX1 (some .int) G) {N : Nat} {b1 : Int} {b4 : Int} {k : RM → Int → Option (Int × RM)} {out : (Int × RM)} : ∀ (n : Nat) (M : RM) (x5 : Int) (H : Heap) (locs : List Loc) (ls : Array Slot) (hE : f_X1_sends_L55 b N b1 b4 k n M x5 = some out) (hM : RW G D ad hp0 M H locs) (hl : lv_has ls 6 [(0, .ref (ad (b + 20))), (1, vI b1), (4, vI b4), (5, vI x5)]) (hk : ∀ (M : RM) (x5 : Int) (H : Heap) (locs : List Loc) (ls : Array Slot), RW G D ad hp0 M H locs → lv_has ls 6 [(0, .ref (ad (b + 20))), (1, vI b1), (4, vI b4), (5, vI x5)] → k M x5 = some out → W p l e (rmD 1) s m args below meth c H locs 0 0 (QR below G D ad hp0 args s (some (vI out.1)) out.2) (F0 m 96 ls [])), W p l e (rmD 1) s m args below meth c H locs 0 0 (QR below G D ad hp0 args s (some (vI out.1)) out.2) (F0 m 55 ls []) := by
  intro n
  induction n with
  | zero =>
    intro M x5 H locs ls hE hM hl hk
    unfold f_X1_sends_L55 at hE
    cases hE
  | succ n ih =>
    intro M x5 H locs ls hE hM hl hk
    unfold f_X1_sends_L55 at hE
    refine e_iload X hl 3 rfl dX1_sends_55 ?_
    refine e_iload_n X hl 1 rfl dX1_sends_57 rfl ?_
    refine e_icmp_eq X (w32 x5) (w32 b1) rfl rfl hE dX1_sends_58 rfl (fun hE => ?_) (fun hE => ?_)
    · exact hk M x5 _ _ _ hM (lv_sub hl [0, 1, 2, 3] rfl) hE
    · refine e_aload_n X hl 0 rfl dX1_sends_61 rfl ?_
      refine e_aload_n X hl 0 rfl dX1_sends_62 rfl ?_
      refine r_getR X hM ck_X1 (b + 20) 10 (dn hb 20 rfl) rfl (by decide) q680 rfl dX1_sends_63 ?_
      refine e_iload X hl 3 rfl dX1_sends_66 ?_
      refine r_aald X hM (b + 10) (dn hb 10 rfl) (fun _ => rfl) (fun _ => rfl) (Nat.le_of_ble_eq_true rfl) hE dX1_sends_68 (fun v10 hE => ?_)
      refine e_deref hE (fun o11 ho11 hE => ?_)
      refine r_getNI X hM ck_X2 o11 5 (dpl hb ho11) rfl (by decide) q648 rfl dX1_sends_69 ?_
      refine e_iload X hl 2 rfl dX1_sends_72 ?_
      obtain ⟨M12, h, hE⟩ := ob_some hE
      refine r_callV0 X hM (b + 20) (dn hb 20 rfl) ck_X1 (rest := []) (met_X1_goes l G ad hp0 b hb M (M o11 5) b4 h) (cwV 2 X.ht (lw_V q2240 q2241 q2242 q132 q2243) rfl rfl rfl hd_X1_goes (cxR (by decide) (by decide))) rfl hl.1 rfl (Nat.le_of_ble_eq_true rfl) dX1_sends_74 ⟨Nat.le_refl _, Nat.le_refl _⟩ (fun H locs hM => ?_)
      refine e_aload_n X hl 0 rfl dX1_sends_77 rfl ?_
      refine e_aload_n X hl 0 rfl dX1_sends_78 rfl ?_
      refine r_getR X hM ck_X1 (b + 20) 10 (dn hb 20 rfl) rfl (by decide) q680 rfl dX1_sends_79 ?_
      refine e_iload X hl 3 rfl dX1_sends_82 ?_
      refine r_aald X hM (b + 10) (dn hb 10 rfl) (fun _ => rfl) (fun _ => rfl) (Nat.le_of_ble_eq_true rfl) hE dX1_sends_84 (fun v13 hE => ?_)
      refine e_deref hE (fun o14 ho14 hE => ?_)
      refine r_getNI X hM ck_X2 o14 5 (dpl hb ho14) rfl (by decide) q648 rfl dX1_sends_85 ?_
      obtain ⟨v15, h, hE⟩ := ob_some hE
      refine r_callV1 X hM (b + 20) (dn hb 20 rfl) ck_X1 (rest := []) (met_X1_stepFrom l G ad hp0 b hb M12 (M12 o14 5) h) (cwV 1 X.ht (lw_V q2203 q2204 q2205 q132 q2206) rfl rfl rfl hd_X1_stepFrom (cxR (by decide) (by decide))) rfl hl.1 rfl (Nat.le_of_ble_eq_true rfl) dX1_sends_88 ⟨Nat.le_refl _, Nat.le_refl _⟩ (fun H locs hM => ?_)
      refine e_istore X hl [(5, vI v15), (0, .ref (ad (b + 20))), (1, vI b1), (4, vI b4)] dX1_sends_91 (by decide) rfl (fun ls hl => ?_)
      refine e_goto X dX1_sends_93 rfl ?_
      exact ih M12 v15 _ _ _ hE hM (lv_sub hl [1, 2, 3, 0] rfl) hk
theorem wb_X1_sends {D : rw_D} {p : Program} {l : Launch} {e : Env} {s : State} {m : MethodId} {args : Array Value} {below : List Frame} {meth : Method} {c : Code} {G : GG} {ad : Nat → Nat} {hp0 : HP} {b : Nat} (hb : NB D b) (X : CX p s m args meth c cX1_sends 6 RX1 (some .int) G) {N : Nat} {M : RM} {a1 : Int} {a2 : Int} {a3 : Int}  {out : (Int × RM)} (hE : f_X1_sends b N M a1 a2 a3 = some out) {H : Heap} {locs : List Loc} {ls : Array Slot} (hM : RW G D ad hp0 M H locs) (hl : lv_has ls 6 [(0, .ref (ad (b + 20))), (1, vI a1), (2, vI a2), (3, vI a3)]) : W p l e (rmD 1) s m args below meth c H locs 0 0 (QR below G D ad hp0 args s (some (vI out.1)) out.2) (F0 m 0 ls []) := by
  unfold f_X1_sends at hE
  refine e_iload_n X hl 3 rfl dX1_sends_0 rfl ?_
  refine e_istore X hl [(4, vI a3), (0, .ref (ad (b + 20))), (1, vI a1), (2, vI a2), (3, vI a3)] dX1_sends_1 (by decide) rfl (fun ls hl => ?_)
  refine e_iload_n X hl 3 rfl dX1_sends_3 rfl ?_
  refine e_istore X hl [(5, vI a2), (4, vI a3), (0, .ref (ad (b + 20))), (1, vI a1), (2, vI a2), (3, vI a3)] dX1_sends_4 (by decide) rfl (fun ls hl => ?_)
  refine wl_X1_sends_6 hb X _ a3 a2 _ _ _ hE hM (lv_sub hl [2, 3, 4, 1, 0] rfl) (fun v8 v9 H locs ls hM hl hE => ?_)
  refine e_iload_n X hl 2 rfl dX1_sends_52 rfl ?_
  refine e_istore X hl [(5, vI a2), (0, .ref (ad (b + 20))), (1, vI a1), (2, vI a2), (4, vI v8)] dX1_sends_53 (by decide) rfl (fun ls hl => ?_)
  refine wl_X1_sends_55 hb X _ M a2 _ _ _ hE hM (lv_sub hl [1, 2, 4, 0] rfl) (fun M16 v17 H locs ls hM hl hE => ?_)
  refine e_iload X hl 2 rfl dX1_sends_96 ?_
  cases hE
  exact r_zret X hM rfl dX1_sends_98
theorem met_X1_sends (l : Launch) (G : GG) (ad : Nat → Nat) (hp0 : HP) {D : rw_D} (b : Nat) (hb : NB D b) {N : Nat} (M : RM) (a1 : Int) (a2 : Int) (a3 : Int)  {out : (Int × RM)} (hE : f_X1_sends b N M a1 a2 a3 = some out) : MR l yX1_sends (ws_ yX1_sends cX1_sends 6 (some .int)) 1 G D ad hp0 [.ref (ad (b + 20)), vI a1, vI a2, vI a3] M (some (vI out.1)) out.2 :=
  MR.of (by decide +kernel) (Nat.le_of_ble_eq_true rfl) rfl (fun p e s m below meth c ls X hM hl => wb_X1_sends hb X hE hM hl)
def f_X1_isSent (b : Nat) (N : Nat) (M : RM) (a1 : Int) : Option (Int × RM) :=
  ob (f_X1_reaches b N M a1) fun M1 => ob (f_X1_nearestWanting b N M1) fun v2 => if ¬ w32 v2 = (-5) then (ob (f_X1_prices b N M1 v2) fun M3 => ob (gA 8 M3 (b + 7) a1) fun v4 => ob (gA 8 M3 (b + 7) v2) fun v5 => ob2 (f_X1_sends b N M3 a1 v2 (if w32 (-v5) < w32 v4 then -v5 else v4)) fun v6 M7 => ob (gA 8 M7 (b + 7) a1) fun v8 => ob (sA 8 M7 (b + 7) a1 (v8 - v6)) fun M9 => ob (gA 8 M9 (b + 7) v2) fun v10 => ob (sA 8 M9 (b + 7) v2 (v10 + v6)) fun M11 => some (1, M11)) else (some (0, M1))
theorem hd_X1_isSent : yX1_isSent.cls = RX1 ∧ yX1_isSent.cls ≠ "java/lang/invoke/MethodHandle" ∧ yX1_isSent.cls ≠ "java/lang/invoke/VarHandle" ∧ (parseMethodDescriptor yX1_isSent.desc).map (fun d => d.parameters.length) = some 1 := by decide +kernel
theorem wb_X1_isSent {D : rw_D} {p : Program} {l : Launch} {e : Env} {s : State} {m : MethodId} {args : Array Value} {below : List Frame} {meth : Method} {c : Code} {G : GG} {ad : Nat → Nat} {hp0 : HP} {b : Nat} (hb : NB D b) (X : CX p s m args meth c cX1_isSent 4 RX1 (some .boolean) G) {N : Nat} {M : RM} {a1 : Int}  {out : (Int × RM)} (hE : f_X1_isSent b N M a1 = some out) {H : Heap} {locs : List Loc} {ls : Array Slot} (hM : RW G D ad hp0 M H locs) (hl : lv_has ls 4 [(0, .ref (ad (b + 20))), (1, vI a1)]) : W p l e (rmD 8) s m args below meth c H locs 0 0 (QR below G D ad hp0 args s (some (vI out.1)) out.2) (F0 m 0 ls []) := by
  unfold f_X1_isSent at hE
  refine e_aload_n X hl 0 rfl dX1_isSent_0 rfl ?_
  refine e_iload_n X hl 1 rfl dX1_isSent_1 rfl ?_
  obtain ⟨M1, h, hE⟩ := ob_some hE
  refine r_callV0 X hM (b + 20) (dn hb 20 rfl) ck_X1 (rest := []) (met_X1_reaches l G ad hp0 b hb M a1 h) (cwV 1 X.ht (lw_V q2095 q2097 qs42 q132 q2098) rfl rfl rfl hd_X1_reaches (cxR (by decide) (by decide))) rfl hl.1 rfl (Nat.le_of_ble_eq_true rfl) dX1_isSent_2 ⟨Nat.le_refl _, Nat.le_refl _⟩ (fun H locs hM => ?_)
  refine e_aload_n X hl 0 rfl dX1_isSent_5 rfl ?_
  obtain ⟨v2, h, hE⟩ := ob_some hE
  refine r_callV1 X hM (b + 20) (dn hb 20 rfl) ck_X1 (rest := []) (met_X1_nearestWanting l G ad hp0 b hb M1 h) (cwV 0 X.ht (lw_V q2226 q2228 qs47 q132 q2229) rfl rfl rfl hd_X1_nearestWanting (cxR (by decide) (by decide))) rfl hl.1 rfl (Nat.le_of_ble_eq_true rfl) dX1_isSent_6 ⟨Nat.le_refl _, Nat.le_refl _⟩ (fun H locs hM => ?_)
  refine e_istore_n X hl [(2, vI v2), (0, .ref (ad (b + 20))), (1, vI a1)] dX1_isSent_9 rfl (by decide) rfl (fun ls hl => ?_)
  refine e_iload_n X hl 0 rfl dX1_isSent_10 rfl ?_
  refine e_bipush X dX1_isSent_11 (by decide) ?_
  refine e_icmp_ne X (w32 v2) (-5) rfl (by decide) hE dX1_isSent_13 rfl (fun hE => ?_) (fun hE => ?_)
  · refine e_aload_n X hl 1 rfl dX1_isSent_18 rfl ?_
    refine e_iload_n X hl 0 rfl dX1_isSent_19 rfl ?_
    obtain ⟨M3, h, hE⟩ := ob_some hE
    refine r_callV0 X hM (b + 20) (dn hb 20 rfl) ck_X1 (rest := []) (met_X1_prices l G ad hp0 b hb M1 v2 h) (cwV 1 X.ht (lw_V q2231 q2233 qs48 q132 q2234) rfl rfl rfl hd_X1_prices (cxR (by decide) (by decide))) rfl hl.1 rfl (Nat.le_of_ble_eq_true rfl) dX1_isSent_20 ⟨Nat.le_refl _, Nat.le_refl _⟩ (fun H locs hM => ?_)
    refine e_aload_n X hl 1 rfl dX1_isSent_23 rfl ?_
    refine e_iload_n X hl 2 rfl dX1_isSent_24 rfl ?_
    refine e_iload_n X hl 0 rfl dX1_isSent_25 rfl ?_
    refine e_aload_n X hl 1 rfl dX1_isSent_26 rfl ?_
    refine r_getR X hM ck_X1 (b + 20) 7 (dn hb 20 rfl) rfl (by decide) q676 rfl dX1_isSent_27 ?_
    refine e_iload_n X hl 2 rfl dX1_isSent_30 rfl ?_
    refine r_iald X hM (b + 7) (dn hb 7 rfl) (Nat.le_of_ble_eq_true rfl) hE dX1_isSent_31 (fun v4 hE => ?_)
    refine e_aload_n X hl 1 rfl dX1_isSent_32 rfl ?_
    refine r_getR X hM ck_X1 (b + 20) 7 (dn hb 20 rfl) rfl (by decide) q676 rfl dX1_isSent_33 ?_
    refine e_iload_n X hl 0 rfl dX1_isSent_36 rfl ?_
    refine r_iald X hM (b + 7) (dn hb 7 rfl) (Nat.le_of_ble_eq_true rfl) hE dX1_isSent_37 (fun v5 hE => ?_)
    refine e_ineg X dX1_isSent_38 ?_
    refine e_min X hl.1 q2235 q442 q145 q443 (dd := 7) rfl (Nat.le_of_ble_eq_true rfl) (Nat.le_refl _) (Nat.le_refl _) dX1_isSent_39 ?_
    obtain ⟨v6, M7, h, hE⟩ := ob2_some hE
    refine r_callV1 X hM (b + 20) (dn hb 20 rfl) ck_X1 (rest := []) (met_X1_sends l G ad hp0 b hb M3 a1 v2 (if w32 (-v5) < w32 v4 then -v5 else v4) h) (cwV 3 X.ht (lw_V q2236 q2238 qs49 q132 q2239) rfl rfl rfl hd_X1_sends (cxR (by decide) (by decide))) rfl hl.1 rfl (Nat.le_of_ble_eq_true rfl) dX1_isSent_42 ⟨Nat.le_refl _, Nat.le_refl _⟩ (fun H locs hM => ?_)
    refine e_istore_n X hl [(3, vI v6), (2, vI v2), (0, .ref (ad (b + 20))), (1, vI a1)] dX1_isSent_45 rfl (by decide) rfl (fun ls hl => ?_)
    refine e_aload_n X hl 2 rfl dX1_isSent_46 rfl ?_
    refine r_getR X hM ck_X1 (b + 20) 7 (dn hb 20 rfl) rfl (by decide) q676 rfl dX1_isSent_47 ?_
    refine e_iload_n X hl 3 rfl dX1_isSent_50 rfl ?_
    refine e_dup2 X dX1_isSent_51 rfl rfl ?_
    refine r_iald X hM (b + 7) (dn hb 7 rfl) (Nat.le_of_ble_eq_true rfl) hE dX1_isSent_52 (fun v8 hE => ?_)
    refine e_iload_n X hl 0 rfl dX1_isSent_53 rfl ?_
    refine e_isub X dX1_isSent_54 ?_
    refine r_iast X hM (b + 7) (dn hb 7 rfl) (Nat.le_of_ble_eq_true rfl) hE dX1_isSent_55 (fun M9 hE H locs hM => ?_)
    refine e_aload_n X hl 2 rfl dX1_isSent_56 rfl ?_
    refine r_getR X hM ck_X1 (b + 20) 7 (dn hb 20 rfl) rfl (by decide) q676 rfl dX1_isSent_57 ?_
    refine e_iload_n X hl 1 rfl dX1_isSent_60 rfl ?_
    refine e_dup2 X dX1_isSent_61 rfl rfl ?_
    refine r_iald X hM (b + 7) (dn hb 7 rfl) (Nat.le_of_ble_eq_true rfl) hE dX1_isSent_62 (fun v10 hE => ?_)
    refine e_iload_n X hl 0 rfl dX1_isSent_63 rfl ?_
    refine e_iadd X dX1_isSent_64 ?_
    refine r_iast X hM (b + 7) (dn hb 7 rfl) (Nat.le_of_ble_eq_true rfl) hE dX1_isSent_65 (fun M11 hE H locs hM => ?_)
    refine e_iconst X dX1_isSent_66 ?_
    cases hE
    exact r_zret (x := 1) X hM rfl dX1_isSent_67
  · refine e_iconst X dX1_isSent_16 ?_
    cases hE
    exact r_zret (x := 0) X hM rfl dX1_isSent_17
theorem met_X1_isSent (l : Launch) (G : GG) (ad : Nat → Nat) (hp0 : HP) {D : rw_D} (b : Nat) (hb : NB D b) {N : Nat} (M : RM) (a1 : Int)  {out : (Int × RM)} (hE : f_X1_isSent b N M a1 = some out) : MR l yX1_isSent (ws_ yX1_isSent cX1_isSent 4 (some .boolean)) 8 G D ad hp0 [.ref (ad (b + 20)), vI a1] M (some (vI out.1)) out.2 :=
  MR.of (by decide +kernel) (Nat.le_of_ble_eq_true rfl) rfl (fun p e s m below meth c ls X hM hl => wb_X1_isSent hb X hE hM hl)
def f_X1_solve_L2 (b : Nat) (N : Nat)  (k : RM → Int → Option (Int × RM)) : Nat → RM → Int → Option (Int × RM)
  | 0, _, _ => none
  | n + 1, M, x1 =>
    if 8 ≤ w32 x1 then (k M x1) else (ob (gA 8 M (b + 6) x1) fun v1 => ob (sA 8 M (b + 7) x1 v1) fun M2 => ob (sA 8 M2 (b + 8) x1 0) fun M3 => ob (sA 8 M3 (b + 9) x1 0) fun M4 => jn (x1 + 1) fun v5 => f_X1_solve_L2 b N  k n M4 v5)
def f_X1_solve_L42 (b : Nat) (N : Nat)  (k : RM → Int → Option (Int × RM)) : Nat → RM → Int → Option (Int × RM)
  | 0, _, _ => none
  | n + 1, M, x1 =>
    if w32 (M (b + 20) 13) ≤ w32 x1 then (k M x1) else (ob (gA 25 M (b + 4) x1) fun v8 => jn (fun (v10 : Int) => ob (sA 25 M (b + 5) x1 v10) fun M11 => ob (gA 25 M11 (b + 0) x1) fun v12 => ob (gA 8 M11 (b + 7) v12) fun v13 => ob (gA 25 M11 (b + 5) x1) fun v14 => ob (sA 8 M11 (b + 7) v12 (v13 - v14)) fun M15 => ob (gA 25 M15 (b + 1) x1) fun v16 => ob (gA 8 M15 (b + 7) v16) fun v17 => ob (gA 25 M15 (b + 5) x1) fun v18 => ob (sA 8 M15 (b + 7) v16 (v17 + v18)) fun M19 => jn (x1 + 1) fun v20 => f_X1_solve_L42 b N  k n M19 v20) fun kj9 => if 0 ≤ w64 v8 then (ob (gA 25 M (b + 2) x1) fun v21 => kj9 v21) else (ob (gA 25 M (b + 3) x1) fun v22 => kj9 v22))
def f_X1_solve_L153 (b : Nat) (N : Nat) (b1 : Int) (k : RM → Option (Int × RM)) : Nat → RM → Option (Int × RM)
  | 0, _ => none
  | n + 1, M =>
    ob (gA 8 M (b + 7) b1) fun v28 => if w32 v28 ≤ 0 then (k M) else (if w32 (M (b + 20) 14) = 0 then (k M) else (ob2 (f_X1_isSent b N M b1) fun v29 M30 => ob (tz v29) fun v31 => jn (up2 M30 (b + 20) 14 v31) fun M32 => f_X1_solve_L153 b N b1 k n M32))
def f_X1_solve_L138 (b : Nat) (N : Nat)  (k : RM → Int → Option (Int × RM)) : Nat → RM → Int → Option (Int × RM)
  | 0, _, _ => none
  | n + 1, M, x1 =>
    if w32 (M (b + 20) 12) ≤ w32 x1 then (k M x1) else (if w32 (M (b + 20) 14) = 0 then (k M x1) else (f_X1_solve_L153 b N x1 (fun (M33 : RM) => jn (x1 + 1) fun v34 => f_X1_solve_L138 b N  k n M33 v34) N M))
def f_X1_solve (b : Nat) (N : Nat) (M : RM)  : Option (Int × RM) :=
  f_X1_solve_L2 b N  (fun (M6 : RM) (v7 : Int) => f_X1_solve_L42 b N  (fun (M23 : RM) (v24 : Int) => ob (f_X1_isBalanced b N M23) fun v25 => ob (tz v25) fun v26 => jn (up2 M23 (b + 20) 14 v26) fun M27 => f_X1_solve_L138 b N  (fun (M35 : RM) (v36 : Int) => ob (tz (M35 (b + 20) 14)) fun v37 => some (v37, M35)) N M27 0) N M6 0) N M 0
theorem hd_X1_solve : yX1_solve.cls = RX1 ∧ yX1_solve.cls ≠ "java/lang/invoke/MethodHandle" ∧ yX1_solve.cls ≠ "java/lang/invoke/VarHandle" ∧ (parseMethodDescriptor yX1_solve.desc).map (fun d => d.parameters.length) = some 0 := by decide +kernel
theorem wl_X1_solve_2 {D : rw_D} {p : Program} {l : Launch} {e : Env} {s : State} {m : MethodId} {args : Array Value} {below : List Frame} {meth : Method} {c : Code} {G : GG} {ad : Nat → Nat} {hp0 : HP} {b : Nat} (hb : NB D b) (X : CX p s m args meth c cX1_solve 2 RX1 (some .boolean) G) {N : Nat}  {k : RM → Int → Option (Int × RM)} {out : (Int × RM)} : ∀ (n : Nat) (M : RM) (x1 : Int) (H : Heap) (locs : List Loc) (ls : Array Slot) (hE : f_X1_solve_L2 b N  k n M x1 = some out) (hM : RW G D ad hp0 M H locs) (hl : lv_has ls 2 [(0, .ref (ad (b + 20))), (1, vI x1)]) (hk : ∀ (M : RM) (x1 : Int) (H : Heap) (locs : List Loc) (ls : Array Slot), RW G D ad hp0 M H locs → lv_has ls 2 [(0, .ref (ad (b + 20))), (1, vI x1)] → k M x1 = some out → W p l e (rmD 9) s m args below meth c H locs 0 0 (QR below G D ad hp0 args s (some (vI out.1)) out.2) (F0 m 40 ls [])), W p l e (rmD 9) s m args below meth c H locs 0 0 (QR below G D ad hp0 args s (some (vI out.1)) out.2) (F0 m 2 ls []) := by
  intro n
  induction n with
  | zero =>
    intro M x1 H locs ls hE hM hl hk
    unfold f_X1_solve_L2 at hE
    cases hE
  | succ n ih =>
    intro M x1 H locs ls hE hM hl hk
    unfold f_X1_solve_L2 at hE
    refine e_iload_n X hl 1 rfl dX1_solve_2 rfl ?_
    refine e_bipush X dX1_solve_3 (by decide) ?_
    refine e_icmp_ge X (w32 x1) 8 rfl (by decide) hE dX1_solve_5 rfl (fun hE => ?_) (fun hE => ?_)
    · exact hk M x1 _ _ _ hM (lv_sub hl [0, 1] rfl) hE
    · refine e_aload_n X hl 0 rfl dX1_solve_8 rfl ?_
      refine r_getR X hM ck_X1 (b + 20) 7 (dn hb 20 rfl) rfl (by decide) q676 rfl dX1_solve_9 ?_
      refine e_iload_n X hl 1 rfl dX1_solve_12 rfl ?_
      refine e_aload_n X hl 0 rfl dX1_solve_13 rfl ?_
      refine r_getR X hM ck_X1 (b + 20) 6 (dn hb 20 rfl) rfl (by decide) q674 rfl dX1_solve_14 ?_
      refine e_iload_n X hl 1 rfl dX1_solve_17 rfl ?_
      refine r_iald X hM (b + 6) (dn hb 6 rfl) (Nat.le_of_ble_eq_true rfl) hE dX1_solve_18 (fun v1 hE => ?_)
      refine r_iast X hM (b + 7) (dn hb 7 rfl) (Nat.le_of_ble_eq_true rfl) hE dX1_solve_19 (fun M2 hE H locs hM => ?_)
      refine e_aload_n X hl 0 rfl dX1_solve_20 rfl ?_
      refine r_getR X hM ck_X1 (b + 20) 8 (dn hb 20 rfl) rfl (by decide) q678 rfl dX1_solve_21 ?_
      refine e_iload_n X hl 1 rfl dX1_solve_24 rfl ?_
      refine e_lconst X 0 dX1_solve_25 (by decide) ?_
      refine r_last X hM (b + 8) (dn hb 8 rfl) (Nat.le_of_ble_eq_true rfl) hE dX1_solve_26 (fun M3 hE H locs hM => ?_)
      refine e_aload_n X hl 0 rfl dX1_solve_27 rfl ?_
      refine r_getR X hM ck_X1 (b + 20) 9 (dn hb 20 rfl) rfl (by decide) q679 rfl dX1_solve_28 ?_
      refine e_iload_n X hl 1 rfl dX1_solve_31 rfl ?_
      refine e_lconst X 0 dX1_solve_32 (by decide) ?_
      refine r_last X hM (b + 9) (dn hb 9 rfl) (Nat.le_of_ble_eq_true rfl) hE dX1_solve_33 (fun M4 hE H locs hM => ?_)
      refine e_iinc X hl 1 hE (fun v5 => [(1, vI v5), (0, .ref (ad (b + 20)))]) rfl dX1_solve_34 (by decide) (fun _ => rfl) (fun v5 hE ls hl => ?_)
      refine e_goto X dX1_solve_37 rfl ?_
      exact ih M4 v5 _ _ _ hE hM (lv_sub hl [1, 0] rfl) hk
theorem wl_X1_solve_42 {D : rw_D} {p : Program} {l : Launch} {e : Env} {s : State} {m : MethodId} {args : Array Value} {below : List Frame} {meth : Method} {c : Code} {G : GG} {ad : Nat → Nat} {hp0 : HP} {b : Nat} (hb : NB D b) (X : CX p s m args meth c cX1_solve 2 RX1 (some .boolean) G) {N : Nat}  {k : RM → Int → Option (Int × RM)} {out : (Int × RM)} : ∀ (n : Nat) (M : RM) (x1 : Int) (H : Heap) (locs : List Loc) (ls : Array Slot) (hE : f_X1_solve_L42 b N  k n M x1 = some out) (hM : RW G D ad hp0 M H locs) (hl : lv_has ls 2 [(0, .ref (ad (b + 20))), (1, vI x1)]) (hk : ∀ (M : RM) (x1 : Int) (H : Heap) (locs : List Loc) (ls : Array Slot), RW G D ad hp0 M H locs → lv_has ls 2 [(0, .ref (ad (b + 20))), (1, vI x1)] → k M x1 = some out → W p l e (rmD 9) s m args below meth c H locs 0 0 (QR below G D ad hp0 args s (some (vI out.1)) out.2) (F0 m 128 ls [])), W p l e (rmD 9) s m args below meth c H locs 0 0 (QR below G D ad hp0 args s (some (vI out.1)) out.2) (F0 m 42 ls []) := by
  intro n
  induction n with
  | zero =>
    intro M x1 H locs ls hE hM hl hk
    unfold f_X1_solve_L42 at hE
    cases hE
  | succ n ih =>
    intro M x1 H locs ls hE hM hl hk
    unfold f_X1_solve_L42 at hE
    refine e_iload_n X hl 1 rfl dX1_solve_42 rfl ?_
    refine e_aload_n X hl 0 rfl dX1_solve_43 rfl ?_
    refine r_getI X hM ck_X1 (b + 20) 13 (dn hb 20 rfl) rfl (by decide) q684 rfl dX1_solve_44 ?_
    refine e_icmp_ge X (w32 x1) (w32 (M (b + 20) 13)) rfl rfl hE dX1_solve_47 rfl (fun hE => ?_) (fun hE => ?_)
    · exact hk M x1 _ _ _ hM (lv_sub hl [0, 1] rfl) hE
    · refine e_aload_n X hl 0 rfl dX1_solve_50 rfl ?_
      refine r_getR X hM ck_X1 (b + 20) 5 (dn hb 20 rfl) rfl (by decide) q672 rfl dX1_solve_51 ?_
      refine e_iload_n X hl 1 rfl dX1_solve_54 rfl ?_
      refine e_aload_n X hl 0 rfl dX1_solve_55 rfl ?_
      refine r_getR X hM ck_X1 (b + 20) 4 (dn hb 20 rfl) rfl (by decide) q670 rfl dX1_solve_56 ?_
      refine e_iload_n X hl 1 rfl dX1_solve_59 rfl ?_
      refine r_lald X hM (b + 4) (dn hb 4 rfl) (Nat.le_of_ble_eq_true rfl) hE dX1_solve_60 (fun v8 hE => ?_)
      refine e_lconst X 0 dX1_solve_61 (by decide) ?_
      obtain ⟨kj9, hkj9, hE⟩ := jn_ex hE
      have hjkj9 : ∀ (v10 : Int) (H : Heap) (locs : List Loc) (ls : Array Slot), RW G D ad hp0 M H locs → lv_has ls 2 [(0, .ref (ad (b + 20))), (1, vI x1)] → kj9 v10 = some out → W p l e (rmD 9) s m args below meth c H locs 0 0 (QR below G D ad hp0 args s (some (vI out.1)) out.2) (F0 m 81 ls [vI v10, vI x1, .ref (ad (b + 5))]) := by
        intro v10 H locs ls hM hl hE
        subst hkj9
        refine r_iast X hM (b + 5) (dn hb 5 rfl) (Nat.le_of_ble_eq_true rfl) hE dX1_solve_81 (fun M11 hE H locs hM => ?_)
        refine e_aload_n X hl 0 rfl dX1_solve_82 rfl ?_
        refine r_getR X hM ck_X1 (b + 20) 7 (dn hb 20 rfl) rfl (by decide) q676 rfl dX1_solve_83 ?_
        refine e_aload_n X hl 0 rfl dX1_solve_86 rfl ?_
        refine r_getR X hM ck_X1 (b + 20) 0 (dn hb 20 rfl) rfl (by decide) q662 rfl dX1_solve_87 ?_
        refine e_iload_n X hl 1 rfl dX1_solve_90 rfl ?_
        refine r_iald X hM (b + 0) (dn hb 0 rfl) (Nat.le_of_ble_eq_true rfl) hE dX1_solve_91 (fun v12 hE => ?_)
        refine e_dup2 X dX1_solve_92 rfl rfl ?_
        refine r_iald X hM (b + 7) (dn hb 7 rfl) (Nat.le_of_ble_eq_true rfl) hE dX1_solve_93 (fun v13 hE => ?_)
        refine e_aload_n X hl 0 rfl dX1_solve_94 rfl ?_
        refine r_getR X hM ck_X1 (b + 20) 5 (dn hb 20 rfl) rfl (by decide) q672 rfl dX1_solve_95 ?_
        refine e_iload_n X hl 1 rfl dX1_solve_98 rfl ?_
        refine r_iald X hM (b + 5) (dn hb 5 rfl) (Nat.le_of_ble_eq_true rfl) hE dX1_solve_99 (fun v14 hE => ?_)
        refine e_isub X dX1_solve_100 ?_
        refine r_iast X hM (b + 7) (dn hb 7 rfl) (Nat.le_of_ble_eq_true rfl) hE dX1_solve_101 (fun M15 hE H locs hM => ?_)
        refine e_aload_n X hl 0 rfl dX1_solve_102 rfl ?_
        refine r_getR X hM ck_X1 (b + 20) 7 (dn hb 20 rfl) rfl (by decide) q676 rfl dX1_solve_103 ?_
        refine e_aload_n X hl 0 rfl dX1_solve_106 rfl ?_
        refine r_getR X hM ck_X1 (b + 20) 1 (dn hb 20 rfl) rfl (by decide) q664 rfl dX1_solve_107 ?_
        refine e_iload_n X hl 1 rfl dX1_solve_110 rfl ?_
        refine r_iald X hM (b + 1) (dn hb 1 rfl) (Nat.le_of_ble_eq_true rfl) hE dX1_solve_111 (fun v16 hE => ?_)
        refine e_dup2 X dX1_solve_112 rfl rfl ?_
        refine r_iald X hM (b + 7) (dn hb 7 rfl) (Nat.le_of_ble_eq_true rfl) hE dX1_solve_113 (fun v17 hE => ?_)
        refine e_aload_n X hl 0 rfl dX1_solve_114 rfl ?_
        refine r_getR X hM ck_X1 (b + 20) 5 (dn hb 20 rfl) rfl (by decide) q672 rfl dX1_solve_115 ?_
        refine e_iload_n X hl 1 rfl dX1_solve_118 rfl ?_
        refine r_iald X hM (b + 5) (dn hb 5 rfl) (Nat.le_of_ble_eq_true rfl) hE dX1_solve_119 (fun v18 hE => ?_)
        refine e_iadd X dX1_solve_120 ?_
        refine r_iast X hM (b + 7) (dn hb 7 rfl) (Nat.le_of_ble_eq_true rfl) hE dX1_solve_121 (fun M19 hE H locs hM => ?_)
        refine e_iinc X hl 1 hE (fun v20 => [(1, vI v20), (0, .ref (ad (b + 20)))]) rfl dX1_solve_122 (by decide) (fun _ => rfl) (fun v20 hE ls hl => ?_)
        refine e_goto X dX1_solve_125 rfl ?_
        exact ih M19 v20 _ _ _ hE hM (lv_sub hl [1, 0] rfl) hk
      refine e_lcmp_ge X (w64 v8) 0 rfl (by decide) hE dX1_solve_62 dX1_solve_63 rfl (fun hE => ?_) (fun hE => ?_)
      · refine e_aload_n X hl 0 rfl dX1_solve_75 rfl ?_
        refine r_getR X hM ck_X1 (b + 20) 2 (dn hb 20 rfl) rfl (by decide) q666 rfl dX1_solve_76 ?_
        refine e_iload_n X hl 1 rfl dX1_solve_79 rfl ?_
        refine r_iald X hM (b + 2) (dn hb 2 rfl) (Nat.le_of_ble_eq_true rfl) hE dX1_solve_80 (fun v21 hE => ?_)
        exact hjkj9 v21 _ _ _ hM (lv_sub hl [0, 1] rfl) hE
      · refine e_aload_n X hl 0 rfl dX1_solve_66 rfl ?_
        refine r_getR X hM ck_X1 (b + 20) 3 (dn hb 20 rfl) rfl (by decide) q668 rfl dX1_solve_67 ?_
        refine e_iload_n X hl 1 rfl dX1_solve_70 rfl ?_
        refine r_iald X hM (b + 3) (dn hb 3 rfl) (Nat.le_of_ble_eq_true rfl) hE dX1_solve_71 (fun v22 hE => ?_)
        refine e_goto X dX1_solve_72 rfl ?_
        exact hjkj9 v22 _ _ _ hM (lv_sub hl [0, 1] rfl) hE
theorem wl_X1_solve_153 {D : rw_D} {p : Program} {l : Launch} {e : Env} {s : State} {m : MethodId} {args : Array Value} {below : List Frame} {meth : Method} {c : Code} {G : GG} {ad : Nat → Nat} {hp0 : HP} {b : Nat} (hb : NB D b) (X : CX p s m args meth c cX1_solve 2 RX1 (some .boolean) G) {N : Nat} {b1 : Int} {k : RM → Option (Int × RM)} {out : (Int × RM)} : ∀ (n : Nat) (M : RM) (H : Heap) (locs : List Loc) (ls : Array Slot) (hE : f_X1_solve_L153 b N b1 k n M = some out) (hM : RW G D ad hp0 M H locs) (hl : lv_has ls 2 [(0, .ref (ad (b + 20))), (1, vI b1)]) (hk : ∀ (M : RM) (H : Heap) (locs : List Loc) (ls : Array Slot), RW G D ad hp0 M H locs → lv_has ls 2 [(0, .ref (ad (b + 20))), (1, vI b1)] → k M = some out → W p l e (rmD 9) s m args below meth c H locs 0 0 (QR below G D ad hp0 args s (some (vI out.1)) out.2) (F0 m 181 ls [])), W p l e (rmD 9) s m args below meth c H locs 0 0 (QR below G D ad hp0 args s (some (vI out.1)) out.2) (F0 m 153 ls []) := by
  intro n
  induction n with
  | zero =>
    intro M H locs ls hE hM hl hk
    unfold f_X1_solve_L153 at hE
    cases hE
  | succ n ih =>
    intro M H locs ls hE hM hl hk
    unfold f_X1_solve_L153 at hE
    refine e_aload_n X hl 0 rfl dX1_solve_153 rfl ?_
    refine r_getR X hM ck_X1 (b + 20) 7 (dn hb 20 rfl) rfl (by decide) q676 rfl dX1_solve_154 ?_
    refine e_iload_n X hl 1 rfl dX1_solve_157 rfl ?_
    refine r_iald X hM (b + 7) (dn hb 7 rfl) (Nat.le_of_ble_eq_true rfl) hE dX1_solve_158 (fun v28 hE => ?_)
    refine e_if_le X (w32 v28) rfl hE dX1_solve_159 rfl (fun hE => ?_) (fun hE => ?_)
    · exact hk M _ _ _ hM (lv_sub hl [0, 1] rfl) hE
    · refine e_aload_n X hl 0 rfl dX1_solve_162 rfl ?_
      refine r_getI X hM ck_X1 (b + 20) 14 (dn hb 20 rfl) rfl (by decide) q687 rfl dX1_solve_163 ?_
      refine e_if_eq X (w32 (M (b + 20) 14)) rfl hE dX1_solve_166 rfl (fun hE => ?_) (fun hE => ?_)
      · exact hk M _ _ _ hM (lv_sub hl [0, 1] rfl) hE
      · refine e_aload_n X hl 0 rfl dX1_solve_169 rfl ?_
        refine e_aload_n X hl 0 rfl dX1_solve_170 rfl ?_
        refine e_iload_n X hl 1 rfl dX1_solve_171 rfl ?_
        obtain ⟨v29, M30, h, hE⟩ := ob2_some hE
        refine r_callV1 X hM (b + 20) (dn hb 20 rfl) ck_X1 (rest := [.ref (ad (b + 20))]) (met_X1_isSent l G ad hp0 b hb M b1 h) (cwV 1 X.ht (lw_V q2091 q2093 qs41 q132 q2094) rfl rfl rfl hd_X1_isSent (cxR (by decide) (by decide))) rfl hl.1 rfl (Nat.le_of_ble_eq_true rfl) dX1_solve_172 ⟨Nat.le_refl _, Nat.le_refl _⟩ (fun H locs hM => ?_)
        obtain ⟨v31, hz, hE⟩ := ob_some hE
        obtain ⟨hz, hz2⟩ := tz_some hz
        rw [hz2] at hE
        refine r_putZ X hM ck_X1 (b + 20) 14 (dn hb 20 rfl) rfl (by decide) q687 rfl rfl hE hz rfl dX1_solve_175 (fun M32 hE H locs hM => ?_)
        refine e_goto X dX1_solve_178 rfl ?_
        exact ih M32 _ _ _ hE hM (lv_sub hl [0, 1] rfl) hk
theorem wl_X1_solve_138 {D : rw_D} {p : Program} {l : Launch} {e : Env} {s : State} {m : MethodId} {args : Array Value} {below : List Frame} {meth : Method} {c : Code} {G : GG} {ad : Nat → Nat} {hp0 : HP} {b : Nat} (hb : NB D b) (X : CX p s m args meth c cX1_solve 2 RX1 (some .boolean) G) {N : Nat}  {k : RM → Int → Option (Int × RM)} {out : (Int × RM)} : ∀ (n : Nat) (M : RM) (x1 : Int) (H : Heap) (locs : List Loc) (ls : Array Slot) (hE : f_X1_solve_L138 b N  k n M x1 = some out) (hM : RW G D ad hp0 M H locs) (hl : lv_has ls 2 [(0, .ref (ad (b + 20))), (1, vI x1)]) (hk : ∀ (M : RM) (x1 : Int) (H : Heap) (locs : List Loc) (ls : Array Slot), RW G D ad hp0 M H locs → lv_has ls 2 [(0, .ref (ad (b + 20))), (1, vI x1)] → k M x1 = some out → W p l e (rmD 9) s m args below meth c H locs 0 0 (QR below G D ad hp0 args s (some (vI out.1)) out.2) (F0 m 187 ls [])), W p l e (rmD 9) s m args below meth c H locs 0 0 (QR below G D ad hp0 args s (some (vI out.1)) out.2) (F0 m 138 ls []) := by
  intro n
  induction n with
  | zero =>
    intro M x1 H locs ls hE hM hl hk
    unfold f_X1_solve_L138 at hE
    cases hE
  | succ n ih =>
    intro M x1 H locs ls hE hM hl hk
    unfold f_X1_solve_L138 at hE
    refine e_iload_n X hl 1 rfl dX1_solve_138 rfl ?_
    refine e_aload_n X hl 0 rfl dX1_solve_139 rfl ?_
    refine r_getI X hM ck_X1 (b + 20) 12 (dn hb 20 rfl) rfl (by decide) q683 rfl dX1_solve_140 ?_
    refine e_icmp_ge X (w32 x1) (w32 (M (b + 20) 12)) rfl rfl hE dX1_solve_143 rfl (fun hE => ?_) (fun hE => ?_)
    · exact hk M x1 _ _ _ hM (lv_sub hl [0, 1] rfl) hE
    · refine e_aload_n X hl 0 rfl dX1_solve_146 rfl ?_
      refine r_getI X hM ck_X1 (b + 20) 14 (dn hb 20 rfl) rfl (by decide) q687 rfl dX1_solve_147 ?_
      refine e_if_eq X (w32 (M (b + 20) 14)) rfl hE dX1_solve_150 rfl (fun hE => ?_) (fun hE => ?_)
      · exact hk M x1 _ _ _ hM (lv_sub hl [0, 1] rfl) hE
      · refine wl_X1_solve_153 hb X _ M _ _ _ hE hM (lv_sub hl [0, 1] rfl) (fun M33 H locs ls hM hl hE => ?_)
        refine e_iinc X hl 1 hE (fun v34 => [(1, vI v34), (0, .ref (ad (b + 20)))]) rfl dX1_solve_181 (by decide) (fun _ => rfl) (fun v34 hE ls hl => ?_)
        refine e_goto X dX1_solve_184 rfl ?_
        exact ih M33 v34 _ _ _ hE hM (lv_sub hl [1, 0] rfl) hk
theorem wb_X1_solve {D : rw_D} {p : Program} {l : Launch} {e : Env} {s : State} {m : MethodId} {args : Array Value} {below : List Frame} {meth : Method} {c : Code} {G : GG} {ad : Nat → Nat} {hp0 : HP} {b : Nat} (hb : NB D b) (X : CX p s m args meth c cX1_solve 2 RX1 (some .boolean) G) {N : Nat} {M : RM}  {out : (Int × RM)} (hE : f_X1_solve b N M = some out) {H : Heap} {locs : List Loc} {ls : Array Slot} (hM : RW G D ad hp0 M H locs) (hl : lv_has ls 2 [(0, .ref (ad (b + 20)))]) : W p l e (rmD 9) s m args below meth c H locs 0 0 (QR below G D ad hp0 args s (some (vI out.1)) out.2) (F0 m 0 ls []) := by
  unfold f_X1_solve at hE
  refine e_iconst X dX1_solve_0 ?_
  refine e_istore_n X hl [(1, vI 0), (0, .ref (ad (b + 20)))] dX1_solve_1 rfl (by decide) rfl (fun ls hl => ?_)
  refine wl_X1_solve_2 hb X _ M 0 _ _ _ hE hM (lv_sub hl [1, 0] rfl) (fun M6 v7 H locs ls hM hl hE => ?_)
  refine e_iconst X dX1_solve_40 ?_
  refine e_istore_n X hl [(1, vI 0), (0, .ref (ad (b + 20)))] dX1_solve_41 rfl (by decide) rfl (fun ls hl => ?_)
  refine wl_X1_solve_42 hb X _ M6 0 _ _ _ hE hM (lv_sub hl [1, 0] rfl) (fun M23 v24 H locs ls hM hl hE => ?_)
  refine e_aload_n X hl 0 rfl dX1_solve_128 rfl ?_
  refine e_aload_n X hl 0 rfl dX1_solve_129 rfl ?_
  obtain ⟨v25, h, hE⟩ := ob_some hE
  refine r_callV1 X hM (b + 20) (dn hb 20 rfl) ck_X1 (rest := [.ref (ad (b + 20))]) (met_X1_isBalanced l G ad hp0 b hb M23 h) (cwV 0 X.ht (lw_V q2087 q2089 qs40 q132 q2090) rfl rfl rfl hd_X1_isBalanced (cxR (by decide) (by decide))) rfl hl.1 rfl (Nat.le_of_ble_eq_true rfl) dX1_solve_130 ⟨Nat.le_refl _, Nat.le_refl _⟩ (fun H locs hM => ?_)
  obtain ⟨v26, hz, hE⟩ := ob_some hE
  obtain ⟨hz, hz2⟩ := tz_some hz
  rw [hz2] at hE
  refine r_putZ X hM ck_X1 (b + 20) 14 (dn hb 20 rfl) rfl (by decide) q687 rfl rfl hE hz rfl dX1_solve_133 (fun M27 hE H locs hM => ?_)
  refine e_iconst X dX1_solve_136 ?_
  refine e_istore_n X hl [(1, vI 0), (0, .ref (ad (b + 20)))] dX1_solve_137 rfl (by decide) rfl (fun ls hl => ?_)
  refine wl_X1_solve_138 hb X _ M27 0 _ _ _ hE hM (lv_sub hl [1, 0] rfl) (fun M35 v36 H locs ls hM hl hE => ?_)
  refine e_aload_n X hl 0 rfl dX1_solve_187 rfl ?_
  refine r_getI X hM ck_X1 (b + 20) 14 (dn hb 20 rfl) rfl (by decide) q687 rfl dX1_solve_188 ?_
  obtain ⟨v37, hz, hE⟩ := ob_some hE
  have hn := nb_z hz
  have hz := (tz_some hz).2
  rw [hz] at hE
  cases hE
  exact r_zret X hM hn dX1_solve_191
theorem met_X1_solve (l : Launch) (G : GG) (ad : Nat → Nat) (hp0 : HP) {D : rw_D} (b : Nat) (hb : NB D b) {N : Nat} (M : RM)   {out : (Int × RM)} (hE : f_X1_solve b N M = some out) : MR l yX1_solve (ws_ yX1_solve cX1_solve 2 (some .boolean)) 9 G D ad hp0 [.ref (ad (b + 20))] M (some (vI out.1)) out.2 :=
  MR.of (by decide +kernel) (Nat.le_of_ble_eq_true rfl) rfl (fun p e s m below meth c ls X hM hl => wb_X1_solve hb X hE hM hl)
def f_X1_isBettered (b : Nat) (M : RM) (a1 : Int) (a2 : Int) : Option (Int × RM) :=
  ob (f_J6_get (b + 17) M a1) fun v1 => if w32 v1 = 0 then (ob (f_J6_set (b + 17) M a1) fun M2 => ob (sA 8 M2 (b + 16) a1 a2) fun M3 => some (1, M3)) else (ob (gA 8 M (b + 16) a1) fun v4 => if w64 a2 < w64 v4 then (ob (f_J6_set (b + 17) M a1) fun M5 => ob (sA 8 M5 (b + 16) a1 a2) fun M6 => some (1, M6)) else (some (0, M)))
theorem hd_X1_isBettered : yX1_isBettered.cls = RX1 ∧ yX1_isBettered.cls ≠ "java/lang/invoke/MethodHandle" ∧ yX1_isBettered.cls ≠ "java/lang/invoke/VarHandle" ∧ (parseMethodDescriptor yX1_isBettered.desc).map (fun d => d.parameters.length) = some 2 := by decide +kernel
theorem wb_X1_isBettered {D : rw_D} {p : Program} {l : Launch} {e : Env} {s : State} {m : MethodId} {args : Array Value} {below : List Frame} {meth : Method} {c : Code} {G : GG} {ad : Nat → Nat} {hp0 : HP} {b : Nat} (hb : NB D b) (X : CX p s m args meth c cX1_isBettered 4 RX1 (some .boolean) G) {M : RM} {a1 : Int} {a2 : Int}  {out : (Int × RM)} (hE : f_X1_isBettered b M a1 a2 = some out) {H : Heap} {locs : List Loc} {ls : Array Slot} (hM : RW G D ad hp0 M H locs) (hl : lv_has ls 4 [(0, .ref (ad (b + 20))), (1, vI a1), (2, vL a2)]) : W p l e (rmD 3) s m args below meth c H locs 0 0 (QR below G D ad hp0 args s (some (vI out.1)) out.2) (F0 m 0 ls []) := by
  unfold f_X1_isBettered at hE
  refine e_aload_n X hl 0 rfl dX1_isBettered_0 rfl ?_
  refine r_getR X hM ck_X1 (b + 20) 17 (dn hb 20 rfl) rfl (by decide) q693 rfl dX1_isBettered_1 ?_
  refine e_iload_n X hl 1 rfl dX1_isBettered_4 rfl ?_
  obtain ⟨v1, h, hE⟩ := ob_some hE
  refine r_callV1 X hM (b + 17) (bsN hb).1 ck_J6 (rest := []) (met_J6_get l G ad hp0 (b + 17) (bsN hb) M a1 h) (cwV 1 X.ht (lw_V q2307 q1635 q1636 q135 q1637) rfl rfl rfl hd_J6_get (cxR (by decide) (by decide))) rfl hl.1 rfl (Nat.le_of_ble_eq_true rfl) dX1_isBettered_5 ⟨Nat.le_refl _, Nat.le_refl _⟩ (fun H locs hM => ?_)
  refine e_if_eq X (w32 v1) rfl hE dX1_isBettered_8 rfl (fun hE => ?_) (fun hE => ?_)
  · refine e_aload_n X hl 0 rfl dX1_isBettered_24 rfl ?_
    refine r_getR X hM ck_X1 (b + 20) 17 (dn hb 20 rfl) rfl (by decide) q693 rfl dX1_isBettered_25 ?_
    refine e_iload_n X hl 1 rfl dX1_isBettered_28 rfl ?_
    obtain ⟨M2, h, hE⟩ := ob_some hE
    refine r_callV0 X hM (b + 17) (bsN hb).1 ck_J6 (rest := []) (met_J6_set l G ad hp0 (b + 17) (bsN hb) M a1 h) (cwV 1 X.ht (lw_V q2286 q2287 q2288 q135 q2289) rfl rfl rfl hd_J6_set (cxR (by decide) (by decide))) rfl hl.1 rfl (Nat.le_of_ble_eq_true rfl) dX1_isBettered_29 ⟨Nat.le_refl _, Nat.le_refl _⟩ (fun H locs hM => ?_)
    refine e_aload_n X hl 0 rfl dX1_isBettered_32 rfl ?_
    refine r_getR X hM ck_X1 (b + 20) 16 (dn hb 20 rfl) rfl (by decide) q690 rfl dX1_isBettered_33 ?_
    refine e_iload_n X hl 1 rfl dX1_isBettered_36 rfl ?_
    refine e_lload_n X hl 2 rfl dX1_isBettered_37 rfl ?_
    refine r_last X hM (b + 16) (dn hb 16 rfl) (Nat.le_of_ble_eq_true rfl) hE dX1_isBettered_38 (fun M3 hE H locs hM => ?_)
    refine e_iconst X dX1_isBettered_39 ?_
    cases hE
    exact r_zret (x := 1) X hM rfl dX1_isBettered_40
  · refine e_aload_n X hl 0 rfl dX1_isBettered_11 rfl ?_
    refine r_getR X hM ck_X1 (b + 20) 16 (dn hb 20 rfl) rfl (by decide) q690 rfl dX1_isBettered_12 ?_
    refine e_iload_n X hl 1 rfl dX1_isBettered_15 rfl ?_
    refine r_lald X hM (b + 16) (dn hb 16 rfl) (Nat.le_of_ble_eq_true rfl) hE dX1_isBettered_16 (fun v4 hE => ?_)
    refine e_lload_n X hl 2 rfl dX1_isBettered_17 rfl ?_
    refine e_lcmp_gt X (w64 v4) (w64 a2) rfl rfl hE dX1_isBettered_18 dX1_isBettered_19 rfl (fun hE => ?_) (fun hE => ?_)
    · refine e_aload_n X hl 0 rfl dX1_isBettered_24 rfl ?_
      refine r_getR X hM ck_X1 (b + 20) 17 (dn hb 20 rfl) rfl (by decide) q693 rfl dX1_isBettered_25 ?_
      refine e_iload_n X hl 1 rfl dX1_isBettered_28 rfl ?_
      obtain ⟨M5, h, hE⟩ := ob_some hE
      refine r_callV0 X hM (b + 17) (bsN hb).1 ck_J6 (rest := []) (met_J6_set l G ad hp0 (b + 17) (bsN hb) M a1 h) (cwV 1 X.ht (lw_V q2286 q2287 q2288 q135 q2289) rfl rfl rfl hd_J6_set (cxR (by decide) (by decide))) rfl hl.1 rfl (Nat.le_of_ble_eq_true rfl) dX1_isBettered_29 ⟨Nat.le_refl _, Nat.le_refl _⟩ (fun H locs hM => ?_)
      refine e_aload_n X hl 0 rfl dX1_isBettered_32 rfl ?_
      refine r_getR X hM ck_X1 (b + 20) 16 (dn hb 20 rfl) rfl (by decide) q690 rfl dX1_isBettered_33 ?_
      refine e_iload_n X hl 1 rfl dX1_isBettered_36 rfl ?_
      refine e_lload_n X hl 2 rfl dX1_isBettered_37 rfl ?_
      refine r_last X hM (b + 16) (dn hb 16 rfl) (Nat.le_of_ble_eq_true rfl) hE dX1_isBettered_38 (fun M6 hE H locs hM => ?_)
      refine e_iconst X dX1_isBettered_39 ?_
      cases hE
      exact r_zret (x := 1) X hM rfl dX1_isBettered_40
    · refine e_iconst X dX1_isBettered_22 ?_
      cases hE
      exact r_zret (x := 0) X hM rfl dX1_isBettered_23
theorem met_X1_isBettered (l : Launch) (G : GG) (ad : Nat → Nat) (hp0 : HP) {D : rw_D} (b : Nat) (hb : NB D b) (M : RM) (a1 : Int) (a2 : Int)  {out : (Int × RM)} (hE : f_X1_isBettered b M a1 a2 = some out) : MR l yX1_isBettered (ws_ yX1_isBettered cX1_isBettered 4 (some .boolean)) 3 G D ad hp0 [.ref (ad (b + 20)), vI a1, vL a2] M (some (vI out.1)) out.2 :=
  MR.of (by decide +kernel) (Nat.le_of_ble_eq_true rfl) rfl (fun p e s m below meth c ls X hM hl => wb_X1_isBettered hb X hE hM hl)
def f_X1_pricesAll_L32 (b : Nat) (N : Nat)  (k : RM → Int → Int → Option RM) : Nat → RM → Int → Int → Option RM
  | 0, _, _, _ => none
  | n + 1, M, x1, x2 =>
    if w32 (2 * (M (b + 20) 13)) ≤ w32 x2 then (k M x1 x2) else (ob (f_X1_room b M x2) fun v4 => jn (fun (v6 : Int) (M7 : RM) => jn (x2 + 1) fun v8 => f_X1_pricesAll_L32 b N  k n M7 v6 v8) fun kj5 => if w32 v4 ≤ 0 then (if w32 x1 = 0 then (kj5 0 M) else (kj5 1 M)) else (ob (f_X1_stepFrom b M x2) fun v9 => ob (f_J6_get (b + 17) M v9) fun v10 => if w32 v10 = 0 then (if w32 x1 = 0 then (kj5 0 M) else (kj5 1 M)) else (ob (f_X1_stepTo b M x2) fun v11 => ob (f_X1_stepFrom b M x2) fun v12 => ob (gA 8 M (b + 16) v12) fun v13 => ob (f_X1_stepCost b M x2) fun v14 => ob2 (f_X1_isBettered b M v11 (v13 + v14)) fun v15 M16 => if ¬ w32 v15 = 0 then (kj5 1 M16) else (if w32 x1 = 0 then (kj5 0 M16) else (kj5 1 M16)))))
def f_X1_pricesAll_L24 (b : Nat) (N : Nat)  (k : RM → Int → Option RM) : Nat → RM → Int → Option RM
  | 0, _, _ => none
  | n + 1, M, x1 =>
    if w32 x1 = 0 then (k M x1) else (f_X1_pricesAll_L32 b N  (fun (M17 : RM) (v18 : Int) (v19 : Int) => f_X1_pricesAll_L24 b N  k n M17 v18) N M 0 0)
def f_X1_pricesAll (b : Nat) (N : Nat) (M : RM)  : Option RM :=
  ob (f_J6_clear (b + 17) N M) fun M1 => ob (f_J6_set (b + 17) M1 0) fun M2 => ob (sA 8 M2 (b + 16) 0 0) fun M3 => f_X1_pricesAll_L24 b N  (fun (M20 : RM) (v21 : Int) => some M20) N M3 1
theorem hd_X1_pricesAll : yX1_pricesAll.cls = RX1 ∧ yX1_pricesAll.cls ≠ "java/lang/invoke/MethodHandle" ∧ yX1_pricesAll.cls ≠ "java/lang/invoke/VarHandle" ∧ (parseMethodDescriptor yX1_pricesAll.desc).map (fun d => d.parameters.length) = some 0 := by decide +kernel
theorem wl_X1_pricesAll_32 {D : rw_D} {p : Program} {l : Launch} {e : Env} {s : State} {m : MethodId} {args : Array Value} {below : List Frame} {meth : Method} {c : Code} {G : GG} {ad : Nat → Nat} {hp0 : HP} {b : Nat} (hb : NB D b) (X : CX p s m args meth c cX1_pricesAll 3 RX1 none G) {N : Nat}  {k : RM → Int → Int → Option RM} {out : RM} : ∀ (n : Nat) (M : RM) (x1 : Int) (x2 : Int) (H : Heap) (locs : List Loc) (ls : Array Slot) (hE : f_X1_pricesAll_L32 b N  k n M x1 x2 = some out) (hM : RW G D ad hp0 M H locs) (hl : lv_has ls 3 [(0, .ref (ad (b + 20))), (1, vI x1), (2, vI x2)]) (hk : ∀ (M : RM) (x1 : Int) (x2 : Int) (H : Heap) (locs : List Loc) (ls : Array Slot), RW G D ad hp0 M H locs → lv_has ls 3 [(0, .ref (ad (b + 20))), (1, vI x1), (2, vI x2)] → k M x1 x2 = some out → W p l e (rmD 4) s m args below meth c H locs 0 0 (QR below G D ad hp0 args s none out) (F0 m 109 ls [])), W p l e (rmD 4) s m args below meth c H locs 0 0 (QR below G D ad hp0 args s none out) (F0 m 32 ls []) := by
  intro n
  induction n with
  | zero =>
    intro M x1 x2 H locs ls hE hM hl hk
    unfold f_X1_pricesAll_L32 at hE
    cases hE
  | succ n ih =>
    intro M x1 x2 H locs ls hE hM hl hk
    unfold f_X1_pricesAll_L32 at hE
    refine e_iload_n X hl 2 rfl dX1_pricesAll_32 rfl ?_
    refine e_iconst X dX1_pricesAll_33 ?_
    refine e_aload_n X hl 0 rfl dX1_pricesAll_34 rfl ?_
    refine r_getI X hM ck_X1 (b + 20) 13 (dn hb 20 rfl) rfl (by decide) q684 rfl dX1_pricesAll_35 ?_
    refine e_imul X dX1_pricesAll_38 ?_
    refine e_icmp_ge X (w32 x2) (w32 (2 * (M (b + 20) 13))) rfl rfl hE dX1_pricesAll_39 rfl (fun hE => ?_) (fun hE => ?_)
    · exact hk M x1 x2 _ _ _ hM (lv_sub hl [0, 1, 2] rfl) hE
    · refine e_aload_n X hl 0 rfl dX1_pricesAll_42 rfl ?_
      refine e_iload_n X hl 2 rfl dX1_pricesAll_43 rfl ?_
      obtain ⟨v4, h, hE⟩ := ob_some hE
      refine r_callV1 X hM (b + 20) (dn hb 20 rfl) ck_X1 (rest := []) (met_X1_room l G ad hp0 b hb M x2 h) (cwV 1 X.ht (lw_V q2207 q2208 q2209 q132 q2210) rfl rfl rfl hd_X1_room (cxR (by decide) (by decide))) rfl hl.1 rfl (Nat.le_of_ble_eq_true rfl) dX1_pricesAll_44 ⟨Nat.le_refl _, Nat.le_refl _⟩ (fun H locs hM => ?_)
      obtain ⟨kj5, hkj5, hE⟩ := jn_ex hE
      have hjkj5 : ∀ (v6 : Int) (M7 : RM) (H : Heap) (locs : List Loc) (ls : Array Slot), RW G D ad hp0 M7 H locs → lv_has ls 3 [(0, .ref (ad (b + 20))), (2, vI x2)] → kj5 v6 M7 = some out → W p l e (rmD 4) s m args below meth c H locs 0 0 (QR below G D ad hp0 args s none out) (F0 m 102 ls [vI v6]) := by
        intro v6 M7 H locs ls hM hl hE
        subst hkj5
        refine e_istore_n X hl [(1, vI v6), (0, .ref (ad (b + 20))), (2, vI x2)] dX1_pricesAll_102 rfl (by decide) rfl (fun ls hl => ?_)
        refine e_iinc X hl 2 hE (fun v8 => [(2, vI v8), (1, vI v6), (0, .ref (ad (b + 20)))]) rfl dX1_pricesAll_103 (by decide) (fun _ => rfl) (fun v8 hE ls hl => ?_)
        refine e_goto X dX1_pricesAll_106 rfl ?_
        exact ih M7 v6 v8 _ _ _ hE hM (lv_sub hl [2, 1, 0] rfl) hk
      refine e_if_le X (w32 v4) rfl hE dX1_pricesAll_47 rfl (fun hE => ?_) (fun hE => ?_)
      · refine e_iload_n X hl 1 rfl dX1_pricesAll_93 rfl ?_
        refine e_if_eq X (w32 x1) rfl hE dX1_pricesAll_94 rfl (fun hE => ?_) (fun hE => ?_)
        · refine e_iconst X dX1_pricesAll_101 ?_
          exact hjkj5 0 M _ _ _ hM (lv_sub hl [0, 2] rfl) hE
        · refine e_iconst X dX1_pricesAll_97 ?_
          refine e_goto X dX1_pricesAll_98 rfl ?_
          exact hjkj5 1 M _ _ _ hM (lv_sub hl [0, 2] rfl) hE
      · refine e_aload_n X hl 0 rfl dX1_pricesAll_50 rfl ?_
        refine r_getR X hM ck_X1 (b + 20) 17 (dn hb 20 rfl) rfl (by decide) q693 rfl dX1_pricesAll_51 ?_
        refine e_aload_n X hl 0 rfl dX1_pricesAll_54 rfl ?_
        refine e_iload_n X hl 2 rfl dX1_pricesAll_55 rfl ?_
        obtain ⟨v9, h, hE⟩ := ob_some hE
        refine r_callV1 X hM (b + 20) (dn hb 20 rfl) ck_X1 (rest := [.ref (ad (b + 17))]) (met_X1_stepFrom l G ad hp0 b hb M x2 h) (cwV 1 X.ht (lw_V q2203 q2204 q2205 q132 q2206) rfl rfl rfl hd_X1_stepFrom (cxR (by decide) (by decide))) rfl hl.1 rfl (Nat.le_of_ble_eq_true rfl) dX1_pricesAll_56 ⟨Nat.le_refl _, Nat.le_refl _⟩ (fun H locs hM => ?_)
        obtain ⟨v10, h, hE⟩ := ob_some hE
        refine r_callV1 X hM (b + 17) (bsN hb).1 ck_J6 (rest := []) (met_J6_get l G ad hp0 (b + 17) (bsN hb) M v9 h) (cwV 1 X.ht (lw_V q2307 q1635 q1636 q135 q1637) rfl rfl rfl hd_J6_get (cxR (by decide) (by decide))) rfl hl.1 rfl (Nat.le_of_ble_eq_true rfl) dX1_pricesAll_59 ⟨Nat.le_refl _, Nat.le_refl _⟩ (fun H locs hM => ?_)
        refine e_if_eq X (w32 v10) rfl hE dX1_pricesAll_62 rfl (fun hE => ?_) (fun hE => ?_)
        · refine e_iload_n X hl 1 rfl dX1_pricesAll_93 rfl ?_
          refine e_if_eq X (w32 x1) rfl hE dX1_pricesAll_94 rfl (fun hE => ?_) (fun hE => ?_)
          · refine e_iconst X dX1_pricesAll_101 ?_
            exact hjkj5 0 M _ _ _ hM (lv_sub hl [0, 2] rfl) hE
          · refine e_iconst X dX1_pricesAll_97 ?_
            refine e_goto X dX1_pricesAll_98 rfl ?_
            exact hjkj5 1 M _ _ _ hM (lv_sub hl [0, 2] rfl) hE
        · refine e_aload_n X hl 0 rfl dX1_pricesAll_65 rfl ?_
          refine e_aload_n X hl 0 rfl dX1_pricesAll_66 rfl ?_
          refine e_iload_n X hl 2 rfl dX1_pricesAll_67 rfl ?_
          obtain ⟨v11, h, hE⟩ := ob_some hE
          refine r_callV1 X hM (b + 20) (dn hb 20 rfl) ck_X1 (rest := [.ref (ad (b + 20))]) (met_X1_stepTo l G ad hp0 b hb M x2 h) (cwV 1 X.ht (lw_V q2211 q2212 q2213 q132 q2214) rfl rfl rfl hd_X1_stepTo (cxR (by decide) (by decide))) rfl hl.1 rfl (Nat.le_of_ble_eq_true rfl) dX1_pricesAll_68 ⟨Nat.le_refl _, Nat.le_refl _⟩ (fun H locs hM => ?_)
          refine e_aload_n X hl 0 rfl dX1_pricesAll_71 rfl ?_
          refine r_getR X hM ck_X1 (b + 20) 16 (dn hb 20 rfl) rfl (by decide) q690 rfl dX1_pricesAll_72 ?_
          refine e_aload_n X hl 0 rfl dX1_pricesAll_75 rfl ?_
          refine e_iload_n X hl 2 rfl dX1_pricesAll_76 rfl ?_
          obtain ⟨v12, h, hE⟩ := ob_some hE
          refine r_callV1 X hM (b + 20) (dn hb 20 rfl) ck_X1 (rest := [.ref (ad (b + 16)), vI v11, .ref (ad (b + 20))]) (met_X1_stepFrom l G ad hp0 b hb M x2 h) (cwV 1 X.ht (lw_V q2203 q2204 q2205 q132 q2206) rfl rfl rfl hd_X1_stepFrom (cxR (by decide) (by decide))) rfl hl.1 rfl (Nat.le_of_ble_eq_true rfl) dX1_pricesAll_77 ⟨Nat.le_refl _, Nat.le_refl _⟩ (fun H locs hM => ?_)
          refine r_lald X hM (b + 16) (dn hb 16 rfl) (Nat.le_of_ble_eq_true rfl) hE dX1_pricesAll_80 (fun v13 hE => ?_)
          refine e_aload_n X hl 0 rfl dX1_pricesAll_81 rfl ?_
          refine e_iload_n X hl 2 rfl dX1_pricesAll_82 rfl ?_
          obtain ⟨v14, h, hE⟩ := ob_some hE
          refine r_callV1 X hM (b + 20) (dn hb 20 rfl) ck_X1 (rest := [vL v13, vI v11, .ref (ad (b + 20))]) (met_X1_stepCost l G ad hp0 b hb M x2 h) (cwV 1 X.ht (lw_V q2215 q2216 q2217 q132 q2218) rfl rfl rfl hd_X1_stepCost (cxR (by decide) (by decide))) rfl hl.1 rfl (Nat.le_of_ble_eq_true rfl) dX1_pricesAll_83 ⟨Nat.le_refl _, Nat.le_refl _⟩ (fun H locs hM => ?_)
          refine e_ladd X dX1_pricesAll_86 ?_
          obtain ⟨v15, M16, h, hE⟩ := ob2_some hE
          refine r_callV1 X hM (b + 20) (dn hb 20 rfl) ck_X1 (rest := []) (met_X1_isBettered l G ad hp0 b hb M v11 (v13 + v14) h) (cwV 2 X.ht (lw_V q2308 q2310 qs53 q132 q2311) rfl rfl rfl hd_X1_isBettered (cxR (by decide) (by decide))) rfl hl.1 rfl (Nat.le_of_ble_eq_true rfl) dX1_pricesAll_87 ⟨Nat.le_refl _, Nat.le_refl _⟩ (fun H locs hM => ?_)
          refine e_if_ne X (w32 v15) rfl hE dX1_pricesAll_90 rfl (fun hE => ?_) (fun hE => ?_)
          · refine e_iconst X dX1_pricesAll_97 ?_
            refine e_goto X dX1_pricesAll_98 rfl ?_
            exact hjkj5 1 M16 _ _ _ hM (lv_sub hl [0, 2] rfl) hE
          · refine e_iload_n X hl 1 rfl dX1_pricesAll_93 rfl ?_
            refine e_if_eq X (w32 x1) rfl hE dX1_pricesAll_94 rfl (fun hE => ?_) (fun hE => ?_)
            · refine e_iconst X dX1_pricesAll_101 ?_
              exact hjkj5 0 M16 _ _ _ hM (lv_sub hl [0, 2] rfl) hE
            · refine e_iconst X dX1_pricesAll_97 ?_
              refine e_goto X dX1_pricesAll_98 rfl ?_
              exact hjkj5 1 M16 _ _ _ hM (lv_sub hl [0, 2] rfl) hE
theorem wl_X1_pricesAll_24 {D : rw_D} {p : Program} {l : Launch} {e : Env} {s : State} {m : MethodId} {args : Array Value} {below : List Frame} {meth : Method} {c : Code} {G : GG} {ad : Nat → Nat} {hp0 : HP} {b : Nat} (hb : NB D b) (X : CX p s m args meth c cX1_pricesAll 3 RX1 none G) {N : Nat}  {k : RM → Int → Option RM} {out : RM} : ∀ (n : Nat) (M : RM) (x1 : Int) (H : Heap) (locs : List Loc) (ls : Array Slot) (hE : f_X1_pricesAll_L24 b N  k n M x1 = some out) (hM : RW G D ad hp0 M H locs) (hl : lv_has ls 3 [(0, .ref (ad (b + 20))), (1, vI x1)]) (hk : ∀ (M : RM) (x1 : Int) (H : Heap) (locs : List Loc) (ls : Array Slot), RW G D ad hp0 M H locs → lv_has ls 3 [(0, .ref (ad (b + 20))), (1, vI x1)] → k M x1 = some out → W p l e (rmD 4) s m args below meth c H locs 0 0 (QR below G D ad hp0 args s none out) (F0 m 112 ls [])), W p l e (rmD 4) s m args below meth c H locs 0 0 (QR below G D ad hp0 args s none out) (F0 m 24 ls []) := by
  intro n
  induction n with
  | zero =>
    intro M x1 H locs ls hE hM hl hk
    unfold f_X1_pricesAll_L24 at hE
    cases hE
  | succ n ih =>
    intro M x1 H locs ls hE hM hl hk
    unfold f_X1_pricesAll_L24 at hE
    refine e_iload_n X hl 1 rfl dX1_pricesAll_24 rfl ?_
    refine e_if_eq X (w32 x1) rfl hE dX1_pricesAll_25 rfl (fun hE => ?_) (fun hE => ?_)
    · exact hk M x1 _ _ _ hM (lv_sub hl [0, 1] rfl) hE
    · refine e_iconst X dX1_pricesAll_28 ?_
      refine e_istore_n X hl [(1, vI 0), (0, .ref (ad (b + 20)))] dX1_pricesAll_29 rfl (by decide) rfl (fun ls hl => ?_)
      refine e_iconst X dX1_pricesAll_30 ?_
      refine e_istore_n X hl [(2, vI 0), (1, vI 0), (0, .ref (ad (b + 20)))] dX1_pricesAll_31 rfl (by decide) rfl (fun ls hl => ?_)
      refine wl_X1_pricesAll_32 hb X _ M 0 0 _ _ _ hE hM (lv_sub hl [2, 1, 0] rfl) (fun M17 v18 v19 H locs ls hM hl hE => ?_)
      refine e_goto X dX1_pricesAll_109 rfl ?_
      exact ih M17 v18 _ _ _ hE hM (lv_sub hl [0, 1] rfl) hk
theorem wb_X1_pricesAll {D : rw_D} {p : Program} {l : Launch} {e : Env} {s : State} {m : MethodId} {args : Array Value} {below : List Frame} {meth : Method} {c : Code} {G : GG} {ad : Nat → Nat} {hp0 : HP} {b : Nat} (hb : NB D b) (X : CX p s m args meth c cX1_pricesAll 3 RX1 none G) {N : Nat} {M : RM}  {out : RM} (hE : f_X1_pricesAll b N M = some out) {H : Heap} {locs : List Loc} {ls : Array Slot} (hM : RW G D ad hp0 M H locs) (hl : lv_has ls 3 [(0, .ref (ad (b + 20)))]) : W p l e (rmD 4) s m args below meth c H locs 0 0 (QR below G D ad hp0 args s none out) (F0 m 0 ls []) := by
  unfold f_X1_pricesAll at hE
  refine e_aload_n X hl 0 rfl dX1_pricesAll_0 rfl ?_
  refine r_getR X hM ck_X1 (b + 20) 17 (dn hb 20 rfl) rfl (by decide) q693 rfl dX1_pricesAll_1 ?_
  obtain ⟨M1, h, hE⟩ := ob_some hE
  refine r_callV0 X hM (b + 17) (bsN hb).1 ck_J6 (rest := []) (met_J6_clear l G ad hp0 (b + 17) (bsN hb) M h) (cwV 0 X.ht (lw_V q2282 q2283 q2284 q135 q2285) rfl rfl rfl hd_J6_clear (cxR (by decide) (by decide))) rfl hl.1 rfl (Nat.le_of_ble_eq_true rfl) dX1_pricesAll_4 ⟨Nat.le_refl _, Nat.le_refl _⟩ (fun H locs hM => ?_)
  refine e_aload_n X hl 0 rfl dX1_pricesAll_7 rfl ?_
  refine r_getR X hM ck_X1 (b + 20) 17 (dn hb 20 rfl) rfl (by decide) q693 rfl dX1_pricesAll_8 ?_
  refine e_iconst X dX1_pricesAll_11 ?_
  obtain ⟨M2, h, hE⟩ := ob_some hE
  refine r_callV0 X hM (b + 17) (bsN hb).1 ck_J6 (rest := []) (met_J6_set l G ad hp0 (b + 17) (bsN hb) M1 0 h) (cwV 1 X.ht (lw_V q2286 q2287 q2288 q135 q2289) rfl rfl rfl hd_J6_set (cxR (by decide) (by decide))) rfl hl.1 rfl (Nat.le_of_ble_eq_true rfl) dX1_pricesAll_12 ⟨Nat.le_refl _, Nat.le_refl _⟩ (fun H locs hM => ?_)
  refine e_aload_n X hl 0 rfl dX1_pricesAll_15 rfl ?_
  refine r_getR X hM ck_X1 (b + 20) 16 (dn hb 20 rfl) rfl (by decide) q690 rfl dX1_pricesAll_16 ?_
  refine e_iconst X dX1_pricesAll_19 ?_
  refine e_lconst X 0 dX1_pricesAll_20 (by decide) ?_
  refine r_last X hM (b + 16) (dn hb 16 rfl) (Nat.le_of_ble_eq_true rfl) hE dX1_pricesAll_21 (fun M3 hE H locs hM => ?_)
  refine e_iconst X dX1_pricesAll_22 ?_
  refine e_istore_n X hl [(1, vI 1), (0, .ref (ad (b + 20)))] dX1_pricesAll_23 rfl (by decide) rfl (fun ls hl => ?_)
  refine wl_X1_pricesAll_24 hb X _ M3 1 _ _ _ hE hM (lv_sub hl [1, 0] rfl) (fun M20 v21 H locs ls hM hl hE => ?_)
  cases hE
  exact r_vret X hM dX1_pricesAll_112
theorem met_X1_pricesAll (l : Launch) (G : GG) (ad : Nat → Nat) (hp0 : HP) {D : rw_D} (b : Nat) (hb : NB D b) {N : Nat} (M : RM)   {out : RM} (hE : f_X1_pricesAll b N M = some out) : MR l yX1_pricesAll (ws_ yX1_pricesAll cX1_pricesAll 3 none) 4 G D ad hp0 [.ref (ad (b + 20))] M none out :=
  MR.of (by decide +kernel) (Nat.le_of_ble_eq_true rfl) rfl (fun p e s m below meth c ls X hM hl => wb_X1_pricesAll hb X hE hM hl)
def f_X1_cut_L16 (b : Nat) (N : Nat) (M0 : RM) (b1 : Int) (k : Int → Int → Option Int) : Nat → Int → Int → Option Int
  | 0, _, _ => none
  | n + 1, x2, x3 =>
    if w32 (M0 (b + 20) 12) ≤ w32 x3 then (k x2 x3) else (ob (gA 8 M0 (b + 6) x3) fun v1 => jn (x2 + ((iAnd (iShr b1 x3) 1) * v1)) fun v2 => jn (x3 + 1) fun v3 => f_X1_cut_L16 b N M0 b1 k n v2 v3)
def f_X1_cut_L47 (b : Nat) (N : Nat) (M0 : RM) (b1 : Int) (k : Int → Int → Option Int) : Nat → Int → Int → Option Int
  | 0, _, _ => none
  | n + 1, x2, x3 =>
    if w32 (M0 (b + 20) 13) ≤ w32 x3 then (k x2 x3) else (ob (gA 25 M0 (b + 0) x3) fun v6 => jn (fun (v8 : Int) => ob (gA 25 M0 (b + 1) x3) fun v9 => jn (fun (v11 : Int) => jn (fun (v13 : Int) => jn (x2 + v13) fun v14 => jn (x3 + 1) fun v15 => f_X1_cut_L47 b N M0 b1 k n v14 v15) fun kj12 => if ¬ w32 v8 = w32 v11 then (if w32 v8 = 0 then (ob (gA 25 M0 (b + 2) x3) fun v16 => kj12 v16) else (ob (gA 25 M0 (b + 3) x3) fun v17 => kj12 (-v17))) else (kj12 0)) fun kj10 => if ¬ w32 (iAnd (iShr b1 v9) 1) = 1 then (kj10 0) else (kj10 1)) fun kj7 => if ¬ w32 (iAnd (iShr b1 v6) 1) = 1 then (kj7 0) else (kj7 1))
def f_X1_cut_L2 (b : Nat) (N : Nat) (M0 : RM)  (k : Int → Option Int) : Nat → Int → Option Int
  | 0, _ => none
  | n + 1, x1 =>
    if w32 (iShl 1 (M0 (b + 20) 12)) ≤ w32 x1 then (k x1) else (f_X1_cut_L16 b N M0 x1 (fun (v4 : Int) (v5 : Int) => f_X1_cut_L47 b N M0 x1 (fun (v18 : Int) (v19 : Int) => if w32 v18 ≤ 0 then (jn (x1 + 1) fun v20 => f_X1_cut_L2 b N M0  k n v20) else (some x1)) N v4 0) N 0 0)
def f_X1_cut (b : Nat) (N : Nat) (M0 : RM)  : Option Int :=
  f_X1_cut_L2 b N M0  (fun (v21 : Int) => some (-5)) N 0
theorem hd_X1_cut : yX1_cut.cls = RX1 ∧ yX1_cut.cls ≠ "java/lang/invoke/MethodHandle" ∧ yX1_cut.cls ≠ "java/lang/invoke/VarHandle" ∧ (parseMethodDescriptor yX1_cut.desc).map (fun d => d.parameters.length) = some 0 := by decide +kernel
theorem wl_X1_cut_16 {D : rw_D} {p : Program} {l : Launch} {e : Env} {s : State} {m : MethodId} {args : Array Value} {below : List Frame} {meth : Method} {c : Code} {G : GG} {ad : Nat → Nat} {hp0 : HP} {M0 : RM} {b : Nat} (hb : NB D b) (X : CX p s m args meth c cX1_cut 6 RX1 (some .int) G) {N : Nat} {b1 : Int} {k : Int → Int → Option Int} {out : Int} : ∀ (n : Nat) (x2 : Int) (x3 : Int) (H : Heap) (locs : List Loc) (ls : Array Slot) (hE : f_X1_cut_L16 b N M0 b1 k n x2 x3 = some out) (hM : RW G D ad hp0 M0 H locs) (hl : lv_has ls 6 [(0, .ref (ad (b + 20))), (1, vI b1), (2, vI x2), (3, vI x3)]) (hk : ∀ (x2 : Int) (x3 : Int) (H : Heap) (locs : List Loc) (ls : Array Slot), RW G D ad hp0 M0 H locs → lv_has ls 6 [(0, .ref (ad (b + 20))), (1, vI b1), (2, vI x2), (3, vI x3)] → k x2 x3 = some out → W p l e (rmD 0) s m args below meth c H locs 0 0 (QR below G D ad hp0 args s (some (vI out)) M0) (F0 m 45 ls [])), W p l e (rmD 0) s m args below meth c H locs 0 0 (QR below G D ad hp0 args s (some (vI out)) M0) (F0 m 16 ls []) := by
  intro n
  induction n with
  | zero =>
    intro x2 x3 H locs ls hE hM hl hk
    unfold f_X1_cut_L16 at hE
    cases hE
  | succ n ih =>
    intro x2 x3 H locs ls hE hM hl hk
    unfold f_X1_cut_L16 at hE
    refine e_iload_n X hl 3 rfl dX1_cut_16 rfl ?_
    refine e_aload_n X hl 0 rfl dX1_cut_17 rfl ?_
    refine r_getI X hM ck_X1 (b + 20) 12 (dn hb 20 rfl) rfl (by decide) q683 rfl dX1_cut_18 ?_
    refine e_icmp_ge X (w32 x3) (w32 (M0 (b + 20) 12)) rfl rfl hE dX1_cut_21 rfl (fun hE => ?_) (fun hE => ?_)
    · exact hk x2 x3 _ _ _ hM (lv_sub hl [0, 1, 2, 3] rfl) hE
    · refine e_iload_n X hl 2 rfl dX1_cut_24 rfl ?_
      refine e_iload_n X hl 1 rfl dX1_cut_25 rfl ?_
      refine e_iload_n X hl 3 rfl dX1_cut_26 rfl ?_
      refine e_ishr X dX1_cut_27 ?_
      refine e_iconst X dX1_cut_28 ?_
      refine e_iand X dX1_cut_29 ?_
      refine e_aload_n X hl 0 rfl dX1_cut_30 rfl ?_
      refine r_getR X hM ck_X1 (b + 20) 6 (dn hb 20 rfl) rfl (by decide) q674 rfl dX1_cut_31 ?_
      refine e_iload_n X hl 3 rfl dX1_cut_34 rfl ?_
      refine r_iald X hM (b + 6) (dn hb 6 rfl) (Nat.le_of_ble_eq_true rfl) hE dX1_cut_35 (fun v1 hE => ?_)
      refine e_imul X dX1_cut_36 ?_
      refine e_iadd X dX1_cut_37 ?_
      refine e_top hE (fun v2 hE => ?_)
      refine e_istore_n X hl [(2, vI v2), (0, .ref (ad (b + 20))), (1, vI b1), (3, vI x3)] dX1_cut_38 rfl (by decide) rfl (fun ls hl => ?_)
      refine e_iinc X hl 3 hE (fun v3 => [(3, vI v3), (2, vI v2), (0, .ref (ad (b + 20))), (1, vI b1)]) rfl dX1_cut_39 (by decide) (fun _ => rfl) (fun v3 hE ls hl => ?_)
      refine e_goto X dX1_cut_42 rfl ?_
      exact ih v2 v3 _ _ _ hE hM (lv_sub hl [2, 3, 1, 0] rfl) hk
theorem wl_X1_cut_47 {D : rw_D} {p : Program} {l : Launch} {e : Env} {s : State} {m : MethodId} {args : Array Value} {below : List Frame} {meth : Method} {c : Code} {G : GG} {ad : Nat → Nat} {hp0 : HP} {M0 : RM} {b : Nat} (hb : NB D b) (X : CX p s m args meth c cX1_cut 6 RX1 (some .int) G) {N : Nat} {b1 : Int} {k : Int → Int → Option Int} {out : Int} : ∀ (n : Nat) (x2 : Int) (x3 : Int) (H : Heap) (locs : List Loc) (ls : Array Slot) (hE : f_X1_cut_L47 b N M0 b1 k n x2 x3 = some out) (hM : RW G D ad hp0 M0 H locs) (hl : lv_has ls 6 [(0, .ref (ad (b + 20))), (1, vI b1), (2, vI x2), (3, vI x3)]) (hk : ∀ (x2 : Int) (x3 : Int) (H : Heap) (locs : List Loc) (ls : Array Slot), RW G D ad hp0 M0 H locs → lv_has ls 6 [(0, .ref (ad (b + 20))), (1, vI b1), (2, vI x2), (3, vI x3)] → k x2 x3 = some out → W p l e (rmD 0) s m args below meth c H locs 0 0 (QR below G D ad hp0 args s (some (vI out)) M0) (F0 m 138 ls [])), W p l e (rmD 0) s m args below meth c H locs 0 0 (QR below G D ad hp0 args s (some (vI out)) M0) (F0 m 47 ls []) := by
  intro n
  induction n with
  | zero =>
    intro x2 x3 H locs ls hE hM hl hk
    unfold f_X1_cut_L47 at hE
    cases hE
  | succ n ih =>
    intro x2 x3 H locs ls hE hM hl hk
    unfold f_X1_cut_L47 at hE
    refine e_iload_n X hl 3 rfl dX1_cut_47 rfl ?_
    refine e_aload_n X hl 0 rfl dX1_cut_48 rfl ?_
    refine r_getI X hM ck_X1 (b + 20) 13 (dn hb 20 rfl) rfl (by decide) q684 rfl dX1_cut_49 ?_
    refine e_icmp_ge X (w32 x3) (w32 (M0 (b + 20) 13)) rfl rfl hE dX1_cut_52 rfl (fun hE => ?_) (fun hE => ?_)
    · exact hk x2 x3 _ _ _ hM (lv_sub hl [0, 1, 2, 3] rfl) hE
    · refine e_iload_n X hl 1 rfl dX1_cut_55 rfl ?_
      refine e_aload_n X hl 0 rfl dX1_cut_56 rfl ?_
      refine r_getR X hM ck_X1 (b + 20) 0 (dn hb 20 rfl) rfl (by decide) q662 rfl dX1_cut_57 ?_
      refine e_iload_n X hl 3 rfl dX1_cut_60 rfl ?_
      refine r_iald X hM (b + 0) (dn hb 0 rfl) (Nat.le_of_ble_eq_true rfl) hE dX1_cut_61 (fun v6 hE => ?_)
      refine e_ishr X dX1_cut_62 ?_
      refine e_iconst X dX1_cut_63 ?_
      refine e_iand X dX1_cut_64 ?_
      refine e_iconst X dX1_cut_65 ?_
      obtain ⟨kj7, hkj7, hE⟩ := jn_ex hE
      have hjkj7 : ∀ (v8 : Int) (H : Heap) (locs : List Loc) (ls : Array Slot), RW G D ad hp0 M0 H locs → lv_has ls 6 [(0, .ref (ad (b + 20))), (1, vI b1), (2, vI x2), (3, vI x3)] → kj7 v8 = some out → W p l e (rmD 0) s m args below meth c H locs 0 0 (QR below G D ad hp0 args s (some (vI out)) M0) (F0 m 74 ls [vI v8]) := by
        intro v8 H locs ls hM hl hE
        subst hkj7
        refine e_istore X hl [(4, vI v8), (0, .ref (ad (b + 20))), (1, vI b1), (2, vI x2), (3, vI x3)] dX1_cut_74 (by decide) rfl (fun ls hl => ?_)
        refine e_iload_n X hl 2 rfl dX1_cut_76 rfl ?_
        refine e_aload_n X hl 1 rfl dX1_cut_77 rfl ?_
        refine r_getR X hM ck_X1 (b + 20) 1 (dn hb 20 rfl) rfl (by decide) q664 rfl dX1_cut_78 ?_
        refine e_iload_n X hl 4 rfl dX1_cut_81 rfl ?_
        refine r_iald X hM (b + 1) (dn hb 1 rfl) (Nat.le_of_ble_eq_true rfl) hE dX1_cut_82 (fun v9 hE => ?_)
        refine e_ishr X dX1_cut_83 ?_
        refine e_iconst X dX1_cut_84 ?_
        refine e_iand X dX1_cut_85 ?_
        refine e_iconst X dX1_cut_86 ?_
        obtain ⟨kj10, hkj10, hE⟩ := jn_ex hE
        have hjkj10 : ∀ (v11 : Int) (H : Heap) (locs : List Loc) (ls : Array Slot), RW G D ad hp0 M0 H locs → lv_has ls 6 [(0, .ref (ad (b + 20))), (1, vI b1), (2, vI x2), (3, vI x3), (4, vI v8)] → kj10 v11 = some out → W p l e (rmD 0) s m args below meth c H locs 0 0 (QR below G D ad hp0 args s (some (vI out)) M0) (F0 m 95 ls [vI v11]) := by
          intro v11 H locs ls hM hl hE
          subst hkj10
          refine e_istore X hl [(5, vI v11), (0, .ref (ad (b + 20))), (1, vI b1), (2, vI x2), (3, vI x3), (4, vI v8)] dX1_cut_95 (by decide) rfl (fun ls hl => ?_)
          refine e_iload_n X hl 3 rfl dX1_cut_97 rfl ?_
          refine e_iload X hl 5 rfl dX1_cut_98 ?_
          refine e_iload X hl 0 rfl dX1_cut_100 ?_
          obtain ⟨kj12, hkj12, hE⟩ := jn_ex hE
          have hjkj12 : ∀ (v13 : Int) (H : Heap) (locs : List Loc) (ls : Array Slot), RW G D ad hp0 M0 H locs → lv_has ls 6 [(0, .ref (ad (b + 20))), (1, vI b1), (3, vI x3)] → kj12 v13 = some out → W p l e (rmD 0) s m args below meth c H locs 0 0 (QR below G D ad hp0 args s (some (vI out)) M0) (F0 m 130 ls [vI v13, vI x2]) := by
            intro v13 H locs ls hM hl hE
            subst hkj12
            refine e_iadd X dX1_cut_130 ?_
            refine e_top hE (fun v14 hE => ?_)
            refine e_istore_n X hl [(2, vI v14), (0, .ref (ad (b + 20))), (1, vI b1), (3, vI x3)] dX1_cut_131 rfl (by decide) rfl (fun ls hl => ?_)
            refine e_iinc X hl 3 hE (fun v15 => [(3, vI v15), (2, vI v14), (0, .ref (ad (b + 20))), (1, vI b1)]) rfl dX1_cut_132 (by decide) (fun _ => rfl) (fun v15 hE ls hl => ?_)
            refine e_goto X dX1_cut_135 rfl ?_
            exact ih v14 v15 _ _ _ hE hM (lv_sub hl [2, 3, 1, 0] rfl) hk
          refine e_icmp_ne X (w32 v8) (w32 v11) rfl rfl hE dX1_cut_102 rfl (fun hE => ?_) (fun hE => ?_)
          · refine e_iload X hl 5 rfl dX1_cut_109 ?_
            refine e_if_eq X (w32 v8) rfl hE dX1_cut_111 rfl (fun hE => ?_) (fun hE => ?_)
            · refine e_aload_n X hl 1 rfl dX1_cut_124 rfl ?_
              refine r_getR X hM ck_X1 (b + 20) 2 (dn hb 20 rfl) rfl (by decide) q666 rfl dX1_cut_125 ?_
              refine e_iload_n X hl 4 rfl dX1_cut_128 rfl ?_
              refine r_iald X hM (b + 2) (dn hb 2 rfl) (Nat.le_of_ble_eq_true rfl) hE dX1_cut_129 (fun v16 hE => ?_)
              exact hjkj12 v16 _ _ _ hM (lv_sub hl [1, 2, 4] rfl) hE
            · refine e_aload_n X hl 1 rfl dX1_cut_114 rfl ?_
              refine r_getR X hM ck_X1 (b + 20) 3 (dn hb 20 rfl) rfl (by decide) q668 rfl dX1_cut_115 ?_
              refine e_iload_n X hl 4 rfl dX1_cut_118 rfl ?_
              refine r_iald X hM (b + 3) (dn hb 3 rfl) (Nat.le_of_ble_eq_true rfl) hE dX1_cut_119 (fun v17 hE => ?_)
              refine e_ineg X dX1_cut_120 ?_
              refine e_goto X dX1_cut_121 rfl ?_
              exact hjkj12 (-v17) _ _ _ hM (lv_sub hl [1, 2, 4] rfl) hE
          · refine e_iconst X dX1_cut_105 ?_
            refine e_goto X dX1_cut_106 rfl ?_
            exact hjkj12 0 _ _ _ hM (lv_sub hl [1, 2, 4] rfl) hE
        refine e_icmp_ne X (w32 (iAnd (iShr b1 v9) 1)) 1 rfl (by decide) hE dX1_cut_87 rfl (fun hE => ?_) (fun hE => ?_)
        · refine e_iconst X dX1_cut_94 ?_
          exact hjkj10 0 _ _ _ hM (lv_sub hl [1, 2, 3, 4, 0] rfl) hE
        · refine e_iconst X dX1_cut_90 ?_
          refine e_goto X dX1_cut_91 rfl ?_
          exact hjkj10 1 _ _ _ hM (lv_sub hl [1, 2, 3, 4, 0] rfl) hE
      refine e_icmp_ne X (w32 (iAnd (iShr b1 v6) 1)) 1 rfl (by decide) hE dX1_cut_66 rfl (fun hE => ?_) (fun hE => ?_)
      · refine e_iconst X dX1_cut_73 ?_
        exact hjkj7 0 _ _ _ hM (lv_sub hl [0, 1, 2, 3] rfl) hE
      · refine e_iconst X dX1_cut_69 ?_
        refine e_goto X dX1_cut_70 rfl ?_
        exact hjkj7 1 _ _ _ hM (lv_sub hl [0, 1, 2, 3] rfl) hE
theorem wl_X1_cut_2 {D : rw_D} {p : Program} {l : Launch} {e : Env} {s : State} {m : MethodId} {args : Array Value} {below : List Frame} {meth : Method} {c : Code} {G : GG} {ad : Nat → Nat} {hp0 : HP} {M0 : RM} {b : Nat} (hb : NB D b) (X : CX p s m args meth c cX1_cut 6 RX1 (some .int) G) {N : Nat}  {k : Int → Option Int} {out : Int} : ∀ (n : Nat) (x1 : Int) (H : Heap) (locs : List Loc) (ls : Array Slot) (hE : f_X1_cut_L2 b N M0  k n x1 = some out) (hM : RW G D ad hp0 M0 H locs) (hl : lv_has ls 6 [(0, .ref (ad (b + 20))), (1, vI x1)]) (hk : ∀ (x1 : Int) (H : Heap) (locs : List Loc) (ls : Array Slot), RW G D ad hp0 M0 H locs → lv_has ls 6 [(0, .ref (ad (b + 20))), (1, vI x1)] → k x1 = some out → W p l e (rmD 0) s m args below meth c H locs 0 0 (QR below G D ad hp0 args s (some (vI out)) M0) (F0 m 150 ls [])), W p l e (rmD 0) s m args below meth c H locs 0 0 (QR below G D ad hp0 args s (some (vI out)) M0) (F0 m 2 ls []) := by
  intro n
  induction n with
  | zero =>
    intro x1 H locs ls hE hM hl hk
    unfold f_X1_cut_L2 at hE
    cases hE
  | succ n ih =>
    intro x1 H locs ls hE hM hl hk
    unfold f_X1_cut_L2 at hE
    refine e_iload_n X hl 1 rfl dX1_cut_2 rfl ?_
    refine e_iconst X dX1_cut_3 ?_
    refine e_aload_n X hl 0 rfl dX1_cut_4 rfl ?_
    refine r_getI X hM ck_X1 (b + 20) 12 (dn hb 20 rfl) rfl (by decide) q683 rfl dX1_cut_5 ?_
    refine e_ishl X dX1_cut_8 ?_
    refine e_icmp_ge X (w32 x1) (w32 (iShl 1 (M0 (b + 20) 12))) rfl rfl hE dX1_cut_9 rfl (fun hE => ?_) (fun hE => ?_)
    · exact hk x1 _ _ _ hM (lv_sub hl [0, 1] rfl) hE
    · refine e_iconst X dX1_cut_12 ?_
      refine e_istore_n X hl [(2, vI 0), (0, .ref (ad (b + 20))), (1, vI x1)] dX1_cut_13 rfl (by decide) rfl (fun ls hl => ?_)
      refine e_iconst X dX1_cut_14 ?_
      refine e_istore_n X hl [(3, vI 0), (2, vI 0), (0, .ref (ad (b + 20))), (1, vI x1)] dX1_cut_15 rfl (by decide) rfl (fun ls hl => ?_)
      refine wl_X1_cut_16 hb X _ 0 0 _ _ _ hE hM (lv_sub hl [2, 3, 1, 0] rfl) (fun v4 v5 H locs ls hM hl hE => ?_)
      refine e_iconst X dX1_cut_45 ?_
      refine e_istore_n X hl [(3, vI 0), (0, .ref (ad (b + 20))), (1, vI x1), (2, vI v4)] dX1_cut_46 rfl (by decide) rfl (fun ls hl => ?_)
      refine wl_X1_cut_47 hb X _ v4 0 _ _ _ hE hM (lv_sub hl [1, 2, 3, 0] rfl) (fun v18 v19 H locs ls hM hl hE => ?_)
      refine e_iload_n X hl 2 rfl dX1_cut_138 rfl ?_
      refine e_if_le X (w32 v18) rfl hE dX1_cut_139 rfl (fun hE => ?_) (fun hE => ?_)
      · refine e_iinc X hl 1 hE (fun v20 => [(1, vI v20), (0, .ref (ad (b + 20))), (2, vI v18), (3, vI v19)]) rfl dX1_cut_144 (by decide) (fun _ => rfl) (fun v20 hE ls hl => ?_)
        refine e_goto X dX1_cut_147 rfl ?_
        exact ih v20 _ _ _ hE hM (lv_sub hl [1, 0] rfl) hk
      · refine e_iload_n X hl 1 rfl dX1_cut_142 rfl ?_
        cases hE
        exact r_zret X hM rfl dX1_cut_143
theorem wb_X1_cut {D : rw_D} {p : Program} {l : Launch} {e : Env} {s : State} {m : MethodId} {args : Array Value} {below : List Frame} {meth : Method} {c : Code} {G : GG} {ad : Nat → Nat} {hp0 : HP} {M0 : RM} {b : Nat} (hb : NB D b) (X : CX p s m args meth c cX1_cut 6 RX1 (some .int) G) {N : Nat}  {out : Int} (hE : f_X1_cut b N M0 = some out) {H : Heap} {locs : List Loc} {ls : Array Slot} (hM : RW G D ad hp0 M0 H locs) (hl : lv_has ls 6 [(0, .ref (ad (b + 20)))]) : W p l e (rmD 0) s m args below meth c H locs 0 0 (QR below G D ad hp0 args s (some (vI out)) M0) (F0 m 0 ls []) := by
  unfold f_X1_cut at hE
  refine e_iconst X dX1_cut_0 ?_
  refine e_istore_n X hl [(1, vI 0), (0, .ref (ad (b + 20)))] dX1_cut_1 rfl (by decide) rfl (fun ls hl => ?_)
  refine wl_X1_cut_2 hb X _ 0 _ _ _ hE hM (lv_sub hl [1, 0] rfl) (fun v21 H locs ls hM hl hE => ?_)
  refine e_bipush X dX1_cut_150 (by decide) ?_
  cases hE
  exact r_zret (x := (-5)) X hM rfl dX1_cut_152
theorem met_X1_cut (l : Launch) (G : GG) (ad : Nat → Nat) (hp0 : HP) {D : rw_D} (b : Nat) (hb : NB D b) {N : Nat} (M0 : RM)   {out : Int} (hE : f_X1_cut b N M0 = some out) : MR l yX1_cut (ws_ yX1_cut cX1_cut 6 (some .int)) 0 G D ad hp0 [.ref (ad (b + 20))] M0 (some (vI out)) M0 :=
  MR.of (by decide +kernel) (Nat.le_of_ble_eq_true rfl) rfl (fun p e s m below meth c ls X hM hl => wb_X1_cut hb X hE hM hl)
def f_X1_cheapest_L6 (b : Nat) (N : Nat) (M0 : RM) (b1 : Int) (b2 : Int) (k : Int → Int → Option Int) : Nat → Int → Int → Option Int
  | 0, _, _ => none
  | n + 1, x3, x4 =>
    if w32 (2 * (M0 (b + 20) 13)) ≤ w32 x4 then (k x3 x4) else (ob (f_X1_stepFrom b M0 x4) fun v1 => jn (fun (v3 : Int) => jn (fun (v5 : Int) => jn (x4 + 1) fun v6 => f_X1_cheapest_L6 b N M0 b1 b2 k n v5 v6) fun kj4 => if w32 v3 = 0 then (kj4 x3) else (if w32 x3 = (-5) then (kj4 x4) else (ob (f_X1_stepCost b M0 x4) fun v7 => ob (f_X1_stepCost b M0 x3) fun v8 => if w64 v8 ≤ w64 v7 then (kj4 x3) else (kj4 x4)))) fun kj2 => if ¬ w32 v1 = w32 b1 then (kj2 0) else (ob (f_X1_stepTo b M0 x4) fun v9 => if ¬ w32 v9 = w32 b2 then (kj2 0) else (ob (f_X1_room b M0 x4) fun v10 => if w32 v10 ≤ 0 then (kj2 0) else (kj2 1))))
def f_X1_cheapest (b : Nat) (N : Nat) (M0 : RM) (a1 : Int) (a2 : Int) : Option Int :=
  f_X1_cheapest_L6 b N M0 a1 a2 (fun (v11 : Int) (v12 : Int) => some v11) N (-5) 0
theorem hd_X1_cheapest : yX1_cheapest.cls = RX1 ∧ yX1_cheapest.cls ≠ "java/lang/invoke/MethodHandle" ∧ yX1_cheapest.cls ≠ "java/lang/invoke/VarHandle" ∧ (parseMethodDescriptor yX1_cheapest.desc).map (fun d => d.parameters.length) = some 2 := by decide +kernel
theorem wl_X1_cheapest_6 {D : rw_D} {p : Program} {l : Launch} {e : Env} {s : State} {m : MethodId} {args : Array Value} {below : List Frame} {meth : Method} {c : Code} {G : GG} {ad : Nat → Nat} {hp0 : HP} {M0 : RM} {b : Nat} (hb : NB D b) (X : CX p s m args meth c cX1_cheapest 6 RX1 (some .int) G) {N : Nat} {b1 : Int} {b2 : Int} {k : Int → Int → Option Int} {out : Int} : ∀ (n : Nat) (x3 : Int) (x4 : Int) (H : Heap) (locs : List Loc) (ls : Array Slot) (hE : f_X1_cheapest_L6 b N M0 b1 b2 k n x3 x4 = some out) (hM : RW G D ad hp0 M0 H locs) (hl : lv_has ls 6 [(0, .ref (ad (b + 20))), (1, vI b1), (2, vI b2), (3, vI x3), (4, vI x4)]) (hk : ∀ (x3 : Int) (x4 : Int) (H : Heap) (locs : List Loc) (ls : Array Slot), RW G D ad hp0 M0 H locs → lv_has ls 6 [(0, .ref (ad (b + 20))), (1, vI b1), (2, vI b2), (3, vI x3), (4, vI x4)] → k x3 x4 = some out → W p l e (rmD 1) s m args below meth c H locs 0 0 (QR below G D ad hp0 args s (some (vI out)) M0) (F0 m 88 ls [])), W p l e (rmD 1) s m args below meth c H locs 0 0 (QR below G D ad hp0 args s (some (vI out)) M0) (F0 m 6 ls []) := by
  intro n
  induction n with
  | zero =>
    intro x3 x4 H locs ls hE hM hl hk
    unfold f_X1_cheapest_L6 at hE
    cases hE
  | succ n ih =>
    intro x3 x4 H locs ls hE hM hl hk
    unfold f_X1_cheapest_L6 at hE
    refine e_iload X hl 4 rfl dX1_cheapest_6 ?_
    refine e_iconst X dX1_cheapest_8 ?_
    refine e_aload_n X hl 0 rfl dX1_cheapest_9 rfl ?_
    refine r_getI X hM ck_X1 (b + 20) 13 (dn hb 20 rfl) rfl (by decide) q684 rfl dX1_cheapest_10 ?_
    refine e_imul X dX1_cheapest_13 ?_
    refine e_icmp_ge X (w32 x4) (w32 (2 * (M0 (b + 20) 13))) rfl rfl hE dX1_cheapest_14 rfl (fun hE => ?_) (fun hE => ?_)
    · exact hk x3 x4 _ _ _ hM (lv_sub hl [0, 1, 2, 3, 4] rfl) hE
    · refine e_aload_n X hl 0 rfl dX1_cheapest_17 rfl ?_
      refine e_iload X hl 4 rfl dX1_cheapest_18 ?_
      obtain ⟨v1, h, hE⟩ := ob_some hE
      refine r_callV1 X hM (b + 20) (dn hb 20 rfl) ck_X1 (rest := []) (met_X1_stepFrom l G ad hp0 b hb M0 x4 h) (cwV 1 X.ht (lw_V q2203 q2204 q2205 q132 q2206) rfl rfl rfl hd_X1_stepFrom (cxR (by decide) (by decide))) rfl hl.1 rfl (Nat.le_of_ble_eq_true rfl) dX1_cheapest_20 ⟨Nat.le_refl _, Nat.le_refl _⟩ (fun H locs hM => ?_)
      refine e_iload_n X hl 1 rfl dX1_cheapest_23 rfl ?_
      obtain ⟨kj2, hkj2, hE⟩ := jn_ex hE
      have hjkj2 : ∀ (v3 : Int) (H : Heap) (locs : List Loc) (ls : Array Slot), RW G D ad hp0 M0 H locs → lv_has ls 6 [(0, .ref (ad (b + 20))), (1, vI b1), (2, vI b2), (3, vI x3), (4, vI x4)] → kj2 v3 = some out → W p l e (rmD 1) s m args below meth c H locs 0 0 (QR below G D ad hp0 args s (some (vI out)) M0) (F0 m 51 ls [vI v3]) := by
        intro v3 H locs ls hM hl hE
        subst hkj2
        refine e_istore X hl [(5, vI v3), (0, .ref (ad (b + 20))), (1, vI b1), (2, vI b2), (3, vI x3), (4, vI x4)] dX1_cheapest_51 (by decide) rfl (fun ls hl => ?_)
        refine e_iload X hl 0 rfl dX1_cheapest_53 ?_
        obtain ⟨kj4, hkj4, hE⟩ := jn_ex hE
        have hjkj4 : ∀ (v5 : Int) (H : Heap) (locs : List Loc) (ls : Array Slot), RW G D ad hp0 M0 H locs → lv_has ls 6 [(0, .ref (ad (b + 20))), (1, vI b1), (2, vI b2), (3, vI v5), (4, vI x4)] → kj4 v5 = some out → W p l e (rmD 1) s m args below meth c H locs 0 0 (QR below G D ad hp0 args s (some (vI out)) M0) (F0 m 82 ls []) := by
          intro v5 H locs ls hM hl hE
          subst hkj4
          refine e_iinc X hl 4 hE (fun v6 => [(4, vI v6), (0, .ref (ad (b + 20))), (1, vI b1), (2, vI b2), (3, vI v5)]) rfl dX1_cheapest_82 (by decide) (fun _ => rfl) (fun v6 hE ls hl => ?_)
          refine e_goto X dX1_cheapest_85 rfl ?_
          exact ih v5 v6 _ _ _ hE hM (lv_sub hl [1, 2, 3, 4, 0] rfl) hk
        refine e_if_eq X (w32 v3) rfl hE dX1_cheapest_55 rfl (fun hE => ?_) (fun hE => ?_)
        · exact hjkj4 x3 _ _ _ hM (lv_sub hl [1, 2, 3, 4, 5] rfl) hE
        · refine e_iload_n X hl 4 rfl dX1_cheapest_58 rfl ?_
          refine e_bipush X dX1_cheapest_59 (by decide) ?_
          refine e_icmp_eq X (w32 x3) (-5) rfl (by decide) hE dX1_cheapest_61 rfl (fun hE => ?_) (fun hE => ?_)
          · refine e_iload X hl 5 rfl dX1_cheapest_79 ?_
            refine e_istore_n X hl [(3, vI x4), (5, vI v3), (0, .ref (ad (b + 20))), (1, vI b1), (2, vI b2), (4, vI x4)] dX1_cheapest_81 rfl (by decide) rfl (fun ls hl => ?_)
            exact hjkj4 x4 _ _ _ hM (lv_sub hl [2, 3, 4, 0, 5] rfl) hE
          · refine e_aload_n X hl 1 rfl dX1_cheapest_64 rfl ?_
            refine e_iload X hl 5 rfl dX1_cheapest_65 ?_
            obtain ⟨v7, h, hE⟩ := ob_some hE
            refine r_callV1 X hM (b + 20) (dn hb 20 rfl) ck_X1 (rest := []) (met_X1_stepCost l G ad hp0 b hb M0 x4 h) (cwV 1 X.ht (lw_V q2215 q2216 q2217 q132 q2218) rfl rfl rfl hd_X1_stepCost (cxR (by decide) (by decide))) rfl hl.1 rfl (Nat.le_of_ble_eq_true rfl) dX1_cheapest_67 ⟨Nat.le_refl _, Nat.le_refl _⟩ (fun H locs hM => ?_)
            refine e_aload_n X hl 1 rfl dX1_cheapest_70 rfl ?_
            refine e_iload_n X hl 4 rfl dX1_cheapest_71 rfl ?_
            obtain ⟨v8, h, hE⟩ := ob_some hE
            refine r_callV1 X hM (b + 20) (dn hb 20 rfl) ck_X1 (rest := [vL v7]) (met_X1_stepCost l G ad hp0 b hb M0 x3 h) (cwV 1 X.ht (lw_V q2215 q2216 q2217 q132 q2218) rfl rfl rfl hd_X1_stepCost (cxR (by decide) (by decide))) rfl hl.1 rfl (Nat.le_of_ble_eq_true rfl) dX1_cheapest_72 ⟨Nat.le_refl _, Nat.le_refl _⟩ (fun H locs hM => ?_)
            refine e_lcmp_ge X (w64 v7) (w64 v8) rfl rfl hE dX1_cheapest_75 dX1_cheapest_76 rfl (fun hE => ?_) (fun hE => ?_)
            · exact hjkj4 x3 _ _ _ hM (lv_sub hl [1, 2, 3, 4, 5] rfl) hE
            · refine e_iload X hl 5 rfl dX1_cheapest_79 ?_
              refine e_istore_n X hl [(3, vI x4), (5, vI v3), (0, .ref (ad (b + 20))), (1, vI b1), (2, vI b2), (4, vI x4)] dX1_cheapest_81 rfl (by decide) rfl (fun ls hl => ?_)
              exact hjkj4 x4 _ _ _ hM (lv_sub hl [2, 3, 4, 0, 5] rfl) hE
      refine e_icmp_ne X (w32 v1) (w32 b1) rfl rfl hE dX1_cheapest_24 rfl (fun hE => ?_) (fun hE => ?_)
      · refine e_iconst X dX1_cheapest_50 ?_
        exact hjkj2 0 _ _ _ hM (lv_sub hl [0, 1, 2, 3, 4] rfl) hE
      · refine e_aload_n X hl 0 rfl dX1_cheapest_27 rfl ?_
        refine e_iload X hl 4 rfl dX1_cheapest_28 ?_
        obtain ⟨v9, h, hE⟩ := ob_some hE
        refine r_callV1 X hM (b + 20) (dn hb 20 rfl) ck_X1 (rest := []) (met_X1_stepTo l G ad hp0 b hb M0 x4 h) (cwV 1 X.ht (lw_V q2211 q2212 q2213 q132 q2214) rfl rfl rfl hd_X1_stepTo (cxR (by decide) (by decide))) rfl hl.1 rfl (Nat.le_of_ble_eq_true rfl) dX1_cheapest_30 ⟨Nat.le_refl _, Nat.le_refl _⟩ (fun H locs hM => ?_)
        refine e_iload_n X hl 2 rfl dX1_cheapest_33 rfl ?_
        refine e_icmp_ne X (w32 v9) (w32 b2) rfl rfl hE dX1_cheapest_34 rfl (fun hE => ?_) (fun hE => ?_)
        · refine e_iconst X dX1_cheapest_50 ?_
          exact hjkj2 0 _ _ _ hM (lv_sub hl [0, 1, 2, 3, 4] rfl) hE
        · refine e_aload_n X hl 0 rfl dX1_cheapest_37 rfl ?_
          refine e_iload X hl 4 rfl dX1_cheapest_38 ?_
          obtain ⟨v10, h, hE⟩ := ob_some hE
          refine r_callV1 X hM (b + 20) (dn hb 20 rfl) ck_X1 (rest := []) (met_X1_room l G ad hp0 b hb M0 x4 h) (cwV 1 X.ht (lw_V q2207 q2208 q2209 q132 q2210) rfl rfl rfl hd_X1_room (cxR (by decide) (by decide))) rfl hl.1 rfl (Nat.le_of_ble_eq_true rfl) dX1_cheapest_40 ⟨Nat.le_refl _, Nat.le_refl _⟩ (fun H locs hM => ?_)
          refine e_if_le X (w32 v10) rfl hE dX1_cheapest_43 rfl (fun hE => ?_) (fun hE => ?_)
          · refine e_iconst X dX1_cheapest_50 ?_
            exact hjkj2 0 _ _ _ hM (lv_sub hl [0, 1, 2, 3, 4] rfl) hE
          · refine e_iconst X dX1_cheapest_46 ?_
            refine e_goto X dX1_cheapest_47 rfl ?_
            exact hjkj2 1 _ _ _ hM (lv_sub hl [0, 1, 2, 3, 4] rfl) hE
theorem wb_X1_cheapest {D : rw_D} {p : Program} {l : Launch} {e : Env} {s : State} {m : MethodId} {args : Array Value} {below : List Frame} {meth : Method} {c : Code} {G : GG} {ad : Nat → Nat} {hp0 : HP} {M0 : RM} {b : Nat} (hb : NB D b) (X : CX p s m args meth c cX1_cheapest 6 RX1 (some .int) G) {N : Nat} {a1 : Int} {a2 : Int}  {out : Int} (hE : f_X1_cheapest b N M0 a1 a2 = some out) {H : Heap} {locs : List Loc} {ls : Array Slot} (hM : RW G D ad hp0 M0 H locs) (hl : lv_has ls 6 [(0, .ref (ad (b + 20))), (1, vI a1), (2, vI a2)]) : W p l e (rmD 1) s m args below meth c H locs 0 0 (QR below G D ad hp0 args s (some (vI out)) M0) (F0 m 0 ls []) := by
  unfold f_X1_cheapest at hE
  refine e_bipush X dX1_cheapest_0 (by decide) ?_
  refine e_istore_n X hl [(3, vI (-5)), (0, .ref (ad (b + 20))), (1, vI a1), (2, vI a2)] dX1_cheapest_2 rfl (by decide) rfl (fun ls hl => ?_)
  refine e_iconst X dX1_cheapest_3 ?_
  refine e_istore X hl [(4, vI 0), (3, vI (-5)), (0, .ref (ad (b + 20))), (1, vI a1), (2, vI a2)] dX1_cheapest_4 (by decide) rfl (fun ls hl => ?_)
  refine wl_X1_cheapest_6 hb X _ (-5) 0 _ _ _ hE hM (lv_sub hl [2, 3, 4, 1, 0] rfl) (fun v11 v12 H locs ls hM hl hE => ?_)
  refine e_iload_n X hl 3 rfl dX1_cheapest_88 rfl ?_
  cases hE
  exact r_zret X hM rfl dX1_cheapest_89
theorem met_X1_cheapest (l : Launch) (G : GG) (ad : Nat → Nat) (hp0 : HP) {D : rw_D} (b : Nat) (hb : NB D b) {N : Nat} (M0 : RM) (a1 : Int) (a2 : Int)  {out : Int} (hE : f_X1_cheapest b N M0 a1 a2 = some out) : MR l yX1_cheapest (ws_ yX1_cheapest cX1_cheapest 6 (some .int)) 1 G D ad hp0 [.ref (ad (b + 20)), vI a1, vI a2] M0 (some (vI out)) M0 :=
  MR.of (by decide +kernel) (Nat.le_of_ble_eq_true rfl) rfl (fun p e s m below meth c ls X hM hl => wb_X1_cheapest hb X hE hM hl)
def f_X1_removes_L12 (b : Nat) (N : Nat)  (k : RM → Int → Option RM) : Nat → RM → Int → Option RM
  | 0, _, _ => none
  | n + 1, M, x2 =>
    if w32 (M (b + 20) 13) ≤ w32 x2 then (k M x2) else (ob (gA 25 M (b + 0) (x2 + 1)) fun v2 => ob (sA 25 M (b + 0) x2 v2) fun M3 => ob (gA 25 M3 (b + 1) (x2 + 1)) fun v4 => ob (sA 25 M3 (b + 1) x2 v4) fun M5 => ob (gA 25 M5 (b + 2) (x2 + 1)) fun v6 => ob (sA 25 M5 (b + 2) x2 v6) fun M7 => ob (gA 25 M7 (b + 3) (x2 + 1)) fun v8 => ob (sA 25 M7 (b + 3) x2 v8) fun M9 => ob (gA 25 M9 (b + 4) (x2 + 1)) fun v10 => ob (sA 25 M9 (b + 4) x2 v10) fun M11 => jn (x2 + 1) fun v12 => f_X1_removes_L12 b N  k n M11 v12)
def f_X1_removes (b : Nat) (N : Nat) (M : RM) (a1 : Int) : Option RM :=
  jn (up2 M (b + 20) 13 ((M (b + 20) 13) - 1)) fun M1 => f_X1_removes_L12 b N  (fun (M13 : RM) (v14 : Int) => some M13) N M1 a1
theorem hd_X1_removes : yX1_removes.cls = RX1 ∧ yX1_removes.cls ≠ "java/lang/invoke/MethodHandle" ∧ yX1_removes.cls ≠ "java/lang/invoke/VarHandle" ∧ (parseMethodDescriptor yX1_removes.desc).map (fun d => d.parameters.length) = some 1 := by decide +kernel
theorem wl_X1_removes_12 {D : rw_D} {p : Program} {l : Launch} {e : Env} {s : State} {m : MethodId} {args : Array Value} {below : List Frame} {meth : Method} {c : Code} {G : GG} {ad : Nat → Nat} {hp0 : HP} {b : Nat} (hb : NB D b) (X : CX p s m args meth c cX1_removes 3 RX1 none G) {N : Nat}  {k : RM → Int → Option RM} {out : RM} : ∀ (n : Nat) (M : RM) (x2 : Int) (H : Heap) (locs : List Loc) (ls : Array Slot) (hE : f_X1_removes_L12 b N  k n M x2 = some out) (hM : RW G D ad hp0 M H locs) (hl : lv_has ls 3 [(0, .ref (ad (b + 20))), (2, vI x2)]) (hk : ∀ (M : RM) (x2 : Int) (H : Heap) (locs : List Loc) (ls : Array Slot), RW G D ad hp0 M H locs → lv_has ls 3 [(0, .ref (ad (b + 20))), (2, vI x2)] → k M x2 = some out → W p l e (rmD 0) s m args below meth c H locs 0 0 (QR below G D ad hp0 args s none out) (F0 m 96 ls [])), W p l e (rmD 0) s m args below meth c H locs 0 0 (QR below G D ad hp0 args s none out) (F0 m 12 ls []) := by
  intro n
  induction n with
  | zero =>
    intro M x2 H locs ls hE hM hl hk
    unfold f_X1_removes_L12 at hE
    cases hE
  | succ n ih =>
    intro M x2 H locs ls hE hM hl hk
    unfold f_X1_removes_L12 at hE
    refine e_iload_n X hl 1 rfl dX1_removes_12 rfl ?_
    refine e_aload_n X hl 0 rfl dX1_removes_13 rfl ?_
    refine r_getI X hM ck_X1 (b + 20) 13 (dn hb 20 rfl) rfl (by decide) q684 rfl dX1_removes_14 ?_
    refine e_icmp_ge X (w32 x2) (w32 (M (b + 20) 13)) rfl rfl hE dX1_removes_17 rfl (fun hE => ?_) (fun hE => ?_)
    · exact hk M x2 _ _ _ hM (lv_sub hl [0, 1] rfl) hE
    · refine e_aload_n X hl 0 rfl dX1_removes_20 rfl ?_
      refine r_getR X hM ck_X1 (b + 20) 0 (dn hb 20 rfl) rfl (by decide) q662 rfl dX1_removes_21 ?_
      refine e_iload_n X hl 1 rfl dX1_removes_24 rfl ?_
      refine e_aload_n X hl 0 rfl dX1_removes_25 rfl ?_
      refine r_getR X hM ck_X1 (b + 20) 0 (dn hb 20 rfl) rfl (by decide) q662 rfl dX1_removes_26 ?_
      refine e_iload_n X hl 1 rfl dX1_removes_29 rfl ?_
      refine e_iconst X dX1_removes_30 ?_
      refine e_iadd X dX1_removes_31 ?_
      refine r_iald X hM (b + 0) (dn hb 0 rfl) (Nat.le_of_ble_eq_true rfl) hE dX1_removes_32 (fun v2 hE => ?_)
      refine r_iast X hM (b + 0) (dn hb 0 rfl) (Nat.le_of_ble_eq_true rfl) hE dX1_removes_33 (fun M3 hE H locs hM => ?_)
      refine e_aload_n X hl 0 rfl dX1_removes_34 rfl ?_
      refine r_getR X hM ck_X1 (b + 20) 1 (dn hb 20 rfl) rfl (by decide) q664 rfl dX1_removes_35 ?_
      refine e_iload_n X hl 1 rfl dX1_removes_38 rfl ?_
      refine e_aload_n X hl 0 rfl dX1_removes_39 rfl ?_
      refine r_getR X hM ck_X1 (b + 20) 1 (dn hb 20 rfl) rfl (by decide) q664 rfl dX1_removes_40 ?_
      refine e_iload_n X hl 1 rfl dX1_removes_43 rfl ?_
      refine e_iconst X dX1_removes_44 ?_
      refine e_iadd X dX1_removes_45 ?_
      refine r_iald X hM (b + 1) (dn hb 1 rfl) (Nat.le_of_ble_eq_true rfl) hE dX1_removes_46 (fun v4 hE => ?_)
      refine r_iast X hM (b + 1) (dn hb 1 rfl) (Nat.le_of_ble_eq_true rfl) hE dX1_removes_47 (fun M5 hE H locs hM => ?_)
      refine e_aload_n X hl 0 rfl dX1_removes_48 rfl ?_
      refine r_getR X hM ck_X1 (b + 20) 2 (dn hb 20 rfl) rfl (by decide) q666 rfl dX1_removes_49 ?_
      refine e_iload_n X hl 1 rfl dX1_removes_52 rfl ?_
      refine e_aload_n X hl 0 rfl dX1_removes_53 rfl ?_
      refine r_getR X hM ck_X1 (b + 20) 2 (dn hb 20 rfl) rfl (by decide) q666 rfl dX1_removes_54 ?_
      refine e_iload_n X hl 1 rfl dX1_removes_57 rfl ?_
      refine e_iconst X dX1_removes_58 ?_
      refine e_iadd X dX1_removes_59 ?_
      refine r_iald X hM (b + 2) (dn hb 2 rfl) (Nat.le_of_ble_eq_true rfl) hE dX1_removes_60 (fun v6 hE => ?_)
      refine r_iast X hM (b + 2) (dn hb 2 rfl) (Nat.le_of_ble_eq_true rfl) hE dX1_removes_61 (fun M7 hE H locs hM => ?_)
      refine e_aload_n X hl 0 rfl dX1_removes_62 rfl ?_
      refine r_getR X hM ck_X1 (b + 20) 3 (dn hb 20 rfl) rfl (by decide) q668 rfl dX1_removes_63 ?_
      refine e_iload_n X hl 1 rfl dX1_removes_66 rfl ?_
      refine e_aload_n X hl 0 rfl dX1_removes_67 rfl ?_
      refine r_getR X hM ck_X1 (b + 20) 3 (dn hb 20 rfl) rfl (by decide) q668 rfl dX1_removes_68 ?_
      refine e_iload_n X hl 1 rfl dX1_removes_71 rfl ?_
      refine e_iconst X dX1_removes_72 ?_
      refine e_iadd X dX1_removes_73 ?_
      refine r_iald X hM (b + 3) (dn hb 3 rfl) (Nat.le_of_ble_eq_true rfl) hE dX1_removes_74 (fun v8 hE => ?_)
      refine r_iast X hM (b + 3) (dn hb 3 rfl) (Nat.le_of_ble_eq_true rfl) hE dX1_removes_75 (fun M9 hE H locs hM => ?_)
      refine e_aload_n X hl 0 rfl dX1_removes_76 rfl ?_
      refine r_getR X hM ck_X1 (b + 20) 4 (dn hb 20 rfl) rfl (by decide) q670 rfl dX1_removes_77 ?_
      refine e_iload_n X hl 1 rfl dX1_removes_80 rfl ?_
      refine e_aload_n X hl 0 rfl dX1_removes_81 rfl ?_
      refine r_getR X hM ck_X1 (b + 20) 4 (dn hb 20 rfl) rfl (by decide) q670 rfl dX1_removes_82 ?_
      refine e_iload_n X hl 1 rfl dX1_removes_85 rfl ?_
      refine e_iconst X dX1_removes_86 ?_
      refine e_iadd X dX1_removes_87 ?_
      refine r_lald X hM (b + 4) (dn hb 4 rfl) (Nat.le_of_ble_eq_true rfl) hE dX1_removes_88 (fun v10 hE => ?_)
      refine r_last X hM (b + 4) (dn hb 4 rfl) (Nat.le_of_ble_eq_true rfl) hE dX1_removes_89 (fun M11 hE H locs hM => ?_)
      refine e_iinc X hl 1 hE (fun v12 => [(2, vI v12), (0, .ref (ad (b + 20)))]) rfl dX1_removes_90 (by decide) (fun _ => rfl) (fun v12 hE ls hl => ?_)
      refine e_goto X dX1_removes_93 rfl ?_
      exact ih M11 v12 _ _ _ hE hM (lv_sub hl [1, 0] rfl) hk
theorem wb_X1_removes {D : rw_D} {p : Program} {l : Launch} {e : Env} {s : State} {m : MethodId} {args : Array Value} {below : List Frame} {meth : Method} {c : Code} {G : GG} {ad : Nat → Nat} {hp0 : HP} {b : Nat} (hb : NB D b) (X : CX p s m args meth c cX1_removes 3 RX1 none G) {N : Nat} {M : RM} {a1 : Int}  {out : RM} (hE : f_X1_removes b N M a1 = some out) {H : Heap} {locs : List Loc} {ls : Array Slot} (hM : RW G D ad hp0 M H locs) (hl : lv_has ls 3 [(0, .ref (ad (b + 20))), (1, vI a1)]) : W p l e (rmD 0) s m args below meth c H locs 0 0 (QR below G D ad hp0 args s none out) (F0 m 0 ls []) := by
  unfold f_X1_removes at hE
  refine e_aload_n X hl 0 rfl dX1_removes_0 rfl ?_
  refine e_dup X dX1_removes_1 rfl ?_
  refine r_getI X hM ck_X1 (b + 20) 13 (dn hb 20 rfl) rfl (by decide) q684 rfl dX1_removes_2 ?_
  refine e_iconst X dX1_removes_5 ?_
  refine e_isub X dX1_removes_6 ?_
  refine r_putI X hM ck_X1 (b + 20) 13 (dn hb 20 rfl) rfl (by decide) q684 rfl rfl hE rfl dX1_removes_7 (fun M1 hE H locs hM => ?_)
  refine e_iload_n X hl 1 rfl dX1_removes_10 rfl ?_
  refine e_istore_n X hl [(2, vI a1), (0, .ref (ad (b + 20))), (1, vI a1)] dX1_removes_11 rfl (by decide) rfl (fun ls hl => ?_)
  refine wl_X1_removes_12 hb X _ M1 a1 _ _ _ hE hM (lv_sub hl [1, 0] rfl) (fun M13 v14 H locs ls hM hl hE => ?_)
  cases hE
  exact r_vret X hM dX1_removes_96
theorem met_X1_removes (l : Launch) (G : GG) (ad : Nat → Nat) (hp0 : HP) {D : rw_D} (b : Nat) (hb : NB D b) {N : Nat} (M : RM) (a1 : Int)  {out : RM} (hE : f_X1_removes b N M a1 = some out) : MR l yX1_removes (ws_ yX1_removes cX1_removes 3 none) 0 G D ad hp0 [.ref (ad (b + 20)), vI a1] M none out :=
  MR.of (by decide +kernel) (Nat.le_of_ble_eq_true rfl) rfl (fun p e s m below meth c ls X hM hl => wb_X1_removes hb X hE hM hl)
def f_X1_sendsMore (b : Nat) (N : Nat) (M : RM) (a1 : Int) (a2 : Int) (a3 : Int) : Option (Int × RM) :=
  ob (f_X1_reaches b N M a1) fun M1 => ob (gA 8 M1 (b + 10) a2) fun v2 => ob (dr (b + 21) 8 v2) fun o3 => if ¬ w32 (M1 o3 3) = 0 then (ob (f_X1_prices b N M1 a2) fun M4 => ob (gA 8 M4 (b + 8) a2) fun v5 => ob (gA 8 M4 (b + 8) a1) fun v6 => jn (up2 M4 (b + 20) 15 (v5 - v6)) fun M7 => ob2 (f_X1_sends b N M7 a1 a2 a3) fun v8 M9 => some (v8, M9)) else (some (0, M1))
theorem hd_X1_sendsMore : yX1_sendsMore.cls = RX1 ∧ yX1_sendsMore.cls ≠ "java/lang/invoke/MethodHandle" ∧ yX1_sendsMore.cls ≠ "java/lang/invoke/VarHandle" ∧ (parseMethodDescriptor yX1_sendsMore.desc).map (fun d => d.parameters.length) = some 3 := by decide +kernel
theorem wb_X1_sendsMore {D : rw_D} {p : Program} {l : Launch} {e : Env} {s : State} {m : MethodId} {args : Array Value} {below : List Frame} {meth : Method} {c : Code} {G : GG} {ad : Nat → Nat} {hp0 : HP} {b : Nat} (hb : NB D b) (X : CX p s m args meth c cX1_sendsMore 4 RX1 (some .int) G) {N : Nat} {M : RM} {a1 : Int} {a2 : Int} {a3 : Int}  {out : (Int × RM)} (hE : f_X1_sendsMore b N M a1 a2 a3 = some out) {H : Heap} {locs : List Loc} {ls : Array Slot} (hM : RW G D ad hp0 M H locs) (hl : lv_has ls 4 [(0, .ref (ad (b + 20))), (1, vI a1), (2, vI a2), (3, vI a3)]) : W p l e (rmD 8) s m args below meth c H locs 0 0 (QR below G D ad hp0 args s (some (vI out.1)) out.2) (F0 m 0 ls []) := by
  unfold f_X1_sendsMore at hE
  refine e_aload_n X hl 0 rfl dX1_sendsMore_0 rfl ?_
  refine e_iload_n X hl 1 rfl dX1_sendsMore_1 rfl ?_
  obtain ⟨M1, h, hE⟩ := ob_some hE
  refine r_callV0 X hM (b + 20) (dn hb 20 rfl) ck_X1 (rest := []) (met_X1_reaches l G ad hp0 b hb M a1 h) (cwV 1 X.ht (lw_V q2095 q2097 qs42 q132 q2098) rfl rfl rfl hd_X1_reaches (cxR (by decide) (by decide))) rfl hl.1 rfl (Nat.le_of_ble_eq_true rfl) dX1_sendsMore_2 ⟨Nat.le_refl _, Nat.le_refl _⟩ (fun H locs hM => ?_)
  refine e_aload_n X hl 0 rfl dX1_sendsMore_5 rfl ?_
  refine r_getR X hM ck_X1 (b + 20) 10 (dn hb 20 rfl) rfl (by decide) q680 rfl dX1_sendsMore_6 ?_
  refine e_iload_n X hl 2 rfl dX1_sendsMore_9 rfl ?_
  refine r_aald X hM (b + 10) (dn hb 10 rfl) (fun _ => rfl) (fun _ => rfl) (Nat.le_of_ble_eq_true rfl) hE dX1_sendsMore_10 (fun v2 hE => ?_)
  refine e_deref hE (fun o3 ho3 hE => ?_)
  refine r_getNI X hM ck_X2 o3 3 (dpl hb ho3) rfl (by decide) q646 rfl dX1_sendsMore_11 ?_
  refine e_if_ne X (w32 (M1 o3 3)) rfl hE dX1_sendsMore_14 rfl (fun hE => ?_) (fun hE => ?_)
  · refine e_aload_n X hl 0 rfl dX1_sendsMore_19 rfl ?_
    refine e_iload_n X hl 2 rfl dX1_sendsMore_20 rfl ?_
    obtain ⟨M4, h, hE⟩ := ob_some hE
    refine r_callV0 X hM (b + 20) (dn hb 20 rfl) ck_X1 (rest := []) (met_X1_prices l G ad hp0 b hb M1 a2 h) (cwV 1 X.ht (lw_V q2231 q2233 qs48 q132 q2234) rfl rfl rfl hd_X1_prices (cxR (by decide) (by decide))) rfl hl.1 rfl (Nat.le_of_ble_eq_true rfl) dX1_sendsMore_21 ⟨Nat.le_refl _, Nat.le_refl _⟩ (fun H locs hM => ?_)
    refine e_aload_n X hl 0 rfl dX1_sendsMore_24 rfl ?_
    refine e_aload_n X hl 0 rfl dX1_sendsMore_25 rfl ?_
    refine r_getR X hM ck_X1 (b + 20) 8 (dn hb 20 rfl) rfl (by decide) q678 rfl dX1_sendsMore_26 ?_
    refine e_iload_n X hl 2 rfl dX1_sendsMore_29 rfl ?_
    refine r_lald X hM (b + 8) (dn hb 8 rfl) (Nat.le_of_ble_eq_true rfl) hE dX1_sendsMore_30 (fun v5 hE => ?_)
    refine e_aload_n X hl 0 rfl dX1_sendsMore_31 rfl ?_
    refine r_getR X hM ck_X1 (b + 20) 8 (dn hb 20 rfl) rfl (by decide) q678 rfl dX1_sendsMore_32 ?_
    refine e_iload_n X hl 1 rfl dX1_sendsMore_35 rfl ?_
    refine r_lald X hM (b + 8) (dn hb 8 rfl) (Nat.le_of_ble_eq_true rfl) hE dX1_sendsMore_36 (fun v6 hE => ?_)
    refine e_lsub X dX1_sendsMore_37 ?_
    refine r_putJ X hM ck_X1 (b + 20) 15 (dn hb 20 rfl) rfl (by decide) q688 rfl rfl hE rfl dX1_sendsMore_38 (fun M7 hE H locs hM => ?_)
    refine e_aload_n X hl 0 rfl dX1_sendsMore_41 rfl ?_
    refine e_iload_n X hl 1 rfl dX1_sendsMore_42 rfl ?_
    refine e_iload_n X hl 2 rfl dX1_sendsMore_43 rfl ?_
    refine e_iload_n X hl 3 rfl dX1_sendsMore_44 rfl ?_
    obtain ⟨v8, M9, h, hE⟩ := ob2_some hE
    refine r_callV1 X hM (b + 20) (dn hb 20 rfl) ck_X1 (rest := []) (met_X1_sends l G ad hp0 b hb M7 a1 a2 a3 h) (cwV 3 X.ht (lw_V q2236 q2238 qs49 q132 q2239) rfl rfl rfl hd_X1_sends (cxR (by decide) (by decide))) rfl hl.1 rfl (Nat.le_of_ble_eq_true rfl) dX1_sendsMore_45 ⟨Nat.le_refl _, Nat.le_refl _⟩ (fun H locs hM => ?_)
    cases hE
    exact r_zret X hM rfl dX1_sendsMore_48
  · refine e_iconst X dX1_sendsMore_17 ?_
    cases hE
    exact r_zret (x := 0) X hM rfl dX1_sendsMore_18
theorem met_X1_sendsMore (l : Launch) (G : GG) (ad : Nat → Nat) (hp0 : HP) {D : rw_D} (b : Nat) (hb : NB D b) {N : Nat} (M : RM) (a1 : Int) (a2 : Int) (a3 : Int)  {out : (Int × RM)} (hE : f_X1_sendsMore b N M a1 a2 a3 = some out) : MR l yX1_sendsMore (ws_ yX1_sendsMore cX1_sendsMore 4 (some .int)) 8 G D ad hp0 [.ref (ad (b + 20)), vI a1, vI a2, vI a3] M (some (vI out.1)) out.2 :=
  MR.of (by decide +kernel) (Nat.le_of_ble_eq_true rfl) rfl (fun p e s m below meth c ls X hM hl => wb_X1_sendsMore hb X hE hM hl)
