/-! 33 TOTAL: sums that may overflow, by program (genX1t.py) -/
set_option maxRecDepth 100000
def f_J16_abs (M0 : RM) (a1 : Int) : Option Int :=
  if 0 ≤ w64 a1 then (some a1) else (some (-a1))
theorem hd_J16_abs : yJ16_abs.cls ≠ "java/lang/invoke/MethodHandle" ∧ yJ16_abs.cls ≠ "java/lang/invoke/VarHandle" ∧ (parseMethodDescriptor yJ16_abs.desc).map (fun d => d.parameters.length) = some 1 := by decide +kernel
theorem wb_J16_abs {p : Program} {l : Launch} {e : Env} {s : State} {m : MethodId} {args : Array Value} {below : List Frame} {meth : Method} {c : Code} {G : GG} {ad : Nat → Nat} {M0 : RM} (X : CX p s m args meth c cJ16_abs 2 RJ16 (some .long) G) {a1 : Int}  {out : Int} (hE : f_J16_abs M0 a1 = some out) {H : Heap} {locs : List Loc} {ls : Array Slot} {hp0 : HP} (hX : XR G ad hp0 M0 H locs) (hl : lv_has ls 2 [(0, vL a1)]) : W p l e (rmA 0 0 0) s m args below meth c H locs 0 0 (QX below G ad args s 0 0 (Zd (some (vL out)) M0)) (F0 m 0 ls []) := by
  unfold f_J16_abs at hE
  refine e_lload_n X hl 0 rfl dJ16_abs_0 rfl ?_
  refine e_lconst X 0 dJ16_abs_1 (by decide) ?_
  refine e_lcmp_ge X (w64 a1) 0 rfl (by decide) hE dJ16_abs_2 dJ16_abs_3 rfl (fun hE => ?_) (fun hE => ?_)
  · refine e_lload_n X hl 0 rfl dJ16_abs_11 rfl ?_
    cases hE
    exact x_lret X hX ⟨rfl, rfl⟩ (Nat.le_of_ble_eq_true rfl) (Nat.le_of_ble_eq_true rfl) dJ16_abs_12
  · refine e_lload_n X hl 0 rfl dJ16_abs_6 rfl ?_
    refine e_lneg X dJ16_abs_7 ?_
    refine e_goto X dJ16_abs_8 rfl ?_
    cases hE
    exact x_lret X hX ⟨rfl, rfl⟩ (Nat.le_of_ble_eq_true rfl) (Nat.le_of_ble_eq_true rfl) dJ16_abs_12
theorem mx_J16_abs (l : Launch) (G : GG) (ad : Nat → Nat) (M0 : RM) (a1 : Int)  {out : Int} (hE : f_J16_abs M0 a1 = some out) : MX l yJ16_abs (ws_ yJ16_abs cJ16_abs 2 (some .long)) 0 0 0 G ad [vL a1] M0 (Zd (some (vL out)) M0) :=
  MX.of (by decide +kernel) (Nat.le_of_ble_eq_true rfl) rfl (fun p e s m below meth c ls hp0 X hX hl => wb_J16_abs X hE hX hl)
def f_J16_multiplyExact (M : RM) (a1 : Int) (a2 : Int) : Option ((Int ⊕ Int) × RM) :=
  jn (a1 * a2) fun v1 => ob (f_J16_abs M a1) fun v2 => ob (f_J16_abs M a2) fun v3 => if w64 (lUshr (lOr v2 v3) 31) = 0 then (some (.inl v1, M)) else (if w64 a2 = 0 then (if ¬ w64 a1 = (-9223372036854775808) then (some (.inl v1, M)) else (if ¬ w64 a2 = (-1) then (some (.inl v1, M)) else (some (.inr 0, M)))) else (if w64 a2 = 0 then none else jn (lDiv v1 a2) fun v4 => if ¬ w64 v4 = w64 a1 then (some (.inr 0, M)) else (if ¬ w64 a1 = (-9223372036854775808) then (some (.inl v1, M)) else (if ¬ w64 a2 = (-1) then (some (.inl v1, M)) else (some (.inr 0, M))))))
theorem hd_J16_multiplyExact : yJ16_multiplyExact.cls ≠ "java/lang/invoke/MethodHandle" ∧ yJ16_multiplyExact.cls ≠ "java/lang/invoke/VarHandle" ∧ (parseMethodDescriptor yJ16_multiplyExact.desc).map (fun d => d.parameters.length) = some 2 := by decide +kernel
theorem wb_J16_multiplyExact {p : Program} {l : Launch} {e : Env} {s : State} {m : MethodId} {args : Array Value} {below : List Frame} {meth : Method} {c : Code} {G : GG} {ad : Nat → Nat} (X : CX p s m args meth c cJ16_multiplyExact 10 RJ16 (some .long) G) (hl0 : l.stackTraces = false) (hnx : ∀ x ∈ c.exceptionTable.toList, False) (hS0 : ∃ hpS : HP, WR G hpS s.heap) {M : RM} {a1 : Int} {a2 : Int}  {out : ((Int ⊕ Int) × RM)} (hE : f_J16_multiplyExact M a1 a2 = some out) {H : Heap} {locs : List Loc} {ls : Array Slot} {hp0 : HP} (hX : XR G ad hp0 M H locs) (hl : lv_has ls 10 [(0, vL a1), (2, vL a2)]) : W p l e (rmA 8 1 6) s m args below meth c H locs 0 0 (QXE below G ad args s 1 6 AE (fun v => some (vL v)) out) (F0 m 0 ls []) := by
  unfold f_J16_multiplyExact at hE
  refine e_lload_n X hl 0 rfl dJ16_multiplyExact_0 rfl ?_
  refine e_lload_n X hl 1 rfl dJ16_multiplyExact_1 rfl ?_
  refine e_lmul X dJ16_multiplyExact_2 ?_
  refine e_topl hE (fun v1 hE => ?_)
  refine e_lstore X hl [(4, vL v1), (0, vL a1), (2, vL a2)] dJ16_multiplyExact_3 (by decide) rfl (fun ls hl => ?_)
  refine e_lload_n X hl 1 rfl dJ16_multiplyExact_5 rfl ?_
  obtain ⟨v2, h, hE⟩ := ob_some hE
  refine x_callS1 (rest := []) X hX (mx_J16_abs l G ad M a1 h) (va_cwS 1 X.ht (lw_S q2251 q2252 q145 q2253) rfl rfl rfl hd_J16_abs (cxH (by decide) (by decide))) rfl hl.1 rfl (Nat.le_of_ble_eq_true rfl) dJ16_multiplyExact_6 ⟨(Nat.le_of_ble_eq_true rfl), (Nat.le_of_ble_eq_true rfl)⟩ (0) (0) rfl rfl (fun hp0 H locs hX => ?_)
  refine e_lstore X hl [(6, vL v2), (4, vL v1), (0, vL a1), (2, vL a2)] dJ16_multiplyExact_9 (by decide) rfl (fun ls hl => ?_)
  refine e_lload_n X hl 3 rfl dJ16_multiplyExact_11 rfl ?_
  obtain ⟨v3, h, hE⟩ := ob_some hE
  refine x_callS1 (rest := []) X hX (mx_J16_abs l G ad M a2 h) (va_cwS 1 X.ht (lw_S q2251 q2252 q145 q2253) rfl rfl rfl hd_J16_abs (cxH (by decide) (by decide))) rfl hl.1 rfl (Nat.le_of_ble_eq_true rfl) dJ16_multiplyExact_12 ⟨(Nat.le_of_ble_eq_true rfl), (Nat.le_of_ble_eq_true rfl)⟩ (0) (0) rfl rfl (fun hp0 H locs hX => ?_)
  refine e_lstore X hl [(8, vL v3), (6, vL v2), (4, vL v1), (0, vL a1), (2, vL a2)] dJ16_multiplyExact_15 (by decide) rfl (fun ls hl => ?_)
  refine e_lload X hl 1 rfl dJ16_multiplyExact_17 ?_
  refine e_lload X hl 0 rfl dJ16_multiplyExact_19 ?_
  refine e_lor X dJ16_multiplyExact_21 ?_
  refine e_bipush X dJ16_multiplyExact_22 (by decide) ?_
  refine e_lushr X dJ16_multiplyExact_24 ?_
  refine e_lconst X 0 dJ16_multiplyExact_25 (by decide) ?_
  refine e_lcmp_eq X (w64 (lUshr (lOr v2 v3) 31)) 0 rfl (by decide) hE dJ16_multiplyExact_26 dJ16_multiplyExact_27 rfl (fun hE => ?_) (fun hE => ?_)
  · refine e_lload X hl 2 rfl dJ16_multiplyExact_71 ?_
    cases hE
    exact vx_ret (x_lret X hX (⟨v1, rfl, rfl, rfl⟩) (Nat.le_of_ble_eq_true rfl) (Nat.le_of_ble_eq_true rfl) dJ16_multiplyExact_73)
  · refine e_lload_n X hl 4 rfl dJ16_multiplyExact_30 rfl ?_
    refine e_lconst X 0 dJ16_multiplyExact_31 (by decide) ?_
    refine e_lcmp_eq X (w64 a2) 0 rfl (by decide) hE dJ16_multiplyExact_32 dJ16_multiplyExact_33 rfl (fun hE => ?_) (fun hE => ?_)
    · refine e_lload_n X hl 3 rfl dJ16_multiplyExact_45 rfl ?_
      refine e_ldc2 X (-9223372036854775808) q2254 (by decide) dJ16_multiplyExact_46 ?_
      refine e_lcmp_ne X (w64 a1) (-9223372036854775808) rfl (by decide) hE dJ16_multiplyExact_49 dJ16_multiplyExact_50 rfl (fun hE => ?_) (fun hE => ?_)
      · refine e_lload X hl 2 rfl dJ16_multiplyExact_71 ?_
        cases hE
        exact vx_ret (x_lret X hX (⟨v1, rfl, rfl, rfl⟩) (Nat.le_of_ble_eq_true rfl) (Nat.le_of_ble_eq_true rfl) dJ16_multiplyExact_73)
      · refine e_lload_n X hl 4 rfl dJ16_multiplyExact_53 rfl ?_
        refine e_ldc2 X (-1) q2255 (by decide) dJ16_multiplyExact_54 ?_
        refine e_lcmp_ne X (w64 a2) (-1) rfl (by decide) hE dJ16_multiplyExact_57 dJ16_multiplyExact_58 rfl (fun hE => ?_) (fun hE => ?_)
        · refine e_lload X hl 2 rfl dJ16_multiplyExact_71 ?_
          cases hE
          exact vx_ret (x_lret X hX (⟨v1, rfl, rfl, rfl⟩) (Nat.le_of_ble_eq_true rfl) (Nat.le_of_ble_eq_true rfl) dJ16_multiplyExact_73)
        · cases hE
          exact x_arith X hl0 hnx hS0 hX hl.1 rfl dJ16_multiplyExact_61 dJ16_multiplyExact_64 dJ16_multiplyExact_65 dJ16_multiplyExact_67 dJ16_multiplyExact_70 (Nat.le_of_ble_eq_true rfl) (Nat.le_of_ble_eq_true rfl) (Nat.le_of_ble_eq_true rfl) (Nat.le_of_ble_eq_true rfl) (Nat.le_of_ble_eq_true rfl) (Nat.le_of_ble_eq_true rfl)
    · refine e_lload X hl 2 rfl dJ16_multiplyExact_36 ?_
      refine e_lload_n X hl 4 rfl dJ16_multiplyExact_38 rfl ?_
      refine e_ldivQ X hE dJ16_multiplyExact_39 (fun v4 hE => ?_)
      refine e_lload_n X hl 3 rfl dJ16_multiplyExact_40 rfl ?_
      refine e_lcmp_ne X (w64 v4) (w64 a1) rfl rfl hE dJ16_multiplyExact_41 dJ16_multiplyExact_42 rfl (fun hE => ?_) (fun hE => ?_)
      · cases hE
        exact x_arith X hl0 hnx hS0 hX hl.1 rfl dJ16_multiplyExact_61 dJ16_multiplyExact_64 dJ16_multiplyExact_65 dJ16_multiplyExact_67 dJ16_multiplyExact_70 (Nat.le_of_ble_eq_true rfl) (Nat.le_of_ble_eq_true rfl) (Nat.le_of_ble_eq_true rfl) (Nat.le_of_ble_eq_true rfl) (Nat.le_of_ble_eq_true rfl) (Nat.le_of_ble_eq_true rfl)
      · refine e_lload_n X hl 3 rfl dJ16_multiplyExact_45 rfl ?_
        refine e_ldc2 X (-9223372036854775808) q2254 (by decide) dJ16_multiplyExact_46 ?_
        refine e_lcmp_ne X (w64 a1) (-9223372036854775808) rfl (by decide) hE dJ16_multiplyExact_49 dJ16_multiplyExact_50 rfl (fun hE => ?_) (fun hE => ?_)
        · refine e_lload X hl 2 rfl dJ16_multiplyExact_71 ?_
          cases hE
          exact vx_ret (x_lret X hX (⟨v1, rfl, rfl, rfl⟩) (Nat.le_of_ble_eq_true rfl) (Nat.le_of_ble_eq_true rfl) dJ16_multiplyExact_73)
        · refine e_lload_n X hl 4 rfl dJ16_multiplyExact_53 rfl ?_
          refine e_ldc2 X (-1) q2255 (by decide) dJ16_multiplyExact_54 ?_
          refine e_lcmp_ne X (w64 a2) (-1) rfl (by decide) hE dJ16_multiplyExact_57 dJ16_multiplyExact_58 rfl (fun hE => ?_) (fun hE => ?_)
          · refine e_lload X hl 2 rfl dJ16_multiplyExact_71 ?_
            cases hE
            exact vx_ret (x_lret X hX (⟨v1, rfl, rfl, rfl⟩) (Nat.le_of_ble_eq_true rfl) (Nat.le_of_ble_eq_true rfl) dJ16_multiplyExact_73)
          · cases hE
            exact x_arith X hl0 hnx hS0 hX hl.1 rfl dJ16_multiplyExact_61 dJ16_multiplyExact_64 dJ16_multiplyExact_65 dJ16_multiplyExact_67 dJ16_multiplyExact_70 (Nat.le_of_ble_eq_true rfl) (Nat.le_of_ble_eq_true rfl) (Nat.le_of_ble_eq_true rfl) (Nat.le_of_ble_eq_true rfl) (Nat.le_of_ble_eq_true rfl) (Nat.le_of_ble_eq_true rfl)
theorem mx_J16_multiplyExact (l : Launch) (hl0 : l.stackTraces = false) (G : GG) (ad : Nat → Nat) (M : RM) (a1 : Int) (a2 : Int)  {out : ((Int ⊕ Int) × RM)} (hE : f_J16_multiplyExact M a1 a2 = some out) : MXE l yJ16_multiplyExact (ws_ yJ16_multiplyExact cJ16_multiplyExact 10 (some .long)) 8 1 6 G ad [vL a1, vL a2] M AE (fun v => some (vL v)) out :=
  MXE.of (by decide +kernel) (Nat.le_of_ble_eq_true rfl) rfl (fun p e s m below meth c ls hp0 X hnx hS0 hX hl => wb_J16_multiplyExact X hl0 hnx hS0 hE hX hl)
def f_J16_addExact (M : RM) (a1 : Int) (a2 : Int) : Option ((Int ⊕ Int) × RM) :=
  jn (a1 + a2) fun v1 => if 0 ≤ w64 (lAnd (lXor a1 v1) (lXor a2 v1)) then (some (.inl v1, M)) else (some (.inr 0, M))
theorem hd_J16_addExact : yJ16_addExact.cls ≠ "java/lang/invoke/MethodHandle" ∧ yJ16_addExact.cls ≠ "java/lang/invoke/VarHandle" ∧ (parseMethodDescriptor yJ16_addExact.desc).map (fun d => d.parameters.length) = some 2 := by decide +kernel
theorem wb_J16_addExact {p : Program} {l : Launch} {e : Env} {s : State} {m : MethodId} {args : Array Value} {below : List Frame} {meth : Method} {c : Code} {G : GG} {ad : Nat → Nat} (X : CX p s m args meth c cJ16_addExact 6 RJ16 (some .long) G) (hl0 : l.stackTraces = false) (hnx : ∀ x ∈ c.exceptionTable.toList, False) (hS0 : ∃ hpS : HP, WR G hpS s.heap) {M : RM} {a1 : Int} {a2 : Int}  {out : ((Int ⊕ Int) × RM)} (hE : f_J16_addExact M a1 a2 = some out) {H : Heap} {locs : List Loc} {ls : Array Slot} {hp0 : HP} (hX : XR G ad hp0 M H locs) (hl : lv_has ls 6 [(0, vL a1), (2, vL a2)]) : W p l e (rmA 8 1 6) s m args below meth c H locs 0 0 (QXE below G ad args s 1 6 AE (fun v => some (vL v)) out) (F0 m 0 ls []) := by
  unfold f_J16_addExact at hE
  refine e_lload_n X hl 0 rfl dJ16_addExact_0 rfl ?_
  refine e_lload_n X hl 1 rfl dJ16_addExact_1 rfl ?_
  refine e_ladd X dJ16_addExact_2 ?_
  refine e_topl hE (fun v1 hE => ?_)
  refine e_lstore X hl [(4, vL v1), (0, vL a1), (2, vL a2)] dJ16_addExact_3 (by decide) rfl (fun ls hl => ?_)
  refine e_lload_n X hl 1 rfl dJ16_addExact_5 rfl ?_
  refine e_lload X hl 0 rfl dJ16_addExact_6 ?_
  refine e_lxor X dJ16_addExact_8 ?_
  refine e_lload_n X hl 2 rfl dJ16_addExact_9 rfl ?_
  refine e_lload X hl 0 rfl dJ16_addExact_10 ?_
  refine e_lxor X dJ16_addExact_12 ?_
  refine e_land X dJ16_addExact_13 ?_
  refine e_lconst X 0 dJ16_addExact_14 (by decide) ?_
  refine e_lcmp_ge X (w64 (lAnd (lXor a1 v1) (lXor a2 v1))) 0 rfl (by decide) hE dJ16_addExact_15 dJ16_addExact_16 rfl (fun hE => ?_) (fun hE => ?_)
  · refine e_lload X hl 0 rfl dJ16_addExact_29 ?_
    cases hE
    exact vx_ret (x_lret X hX (⟨v1, rfl, rfl, rfl⟩) (Nat.le_of_ble_eq_true rfl) (Nat.le_of_ble_eq_true rfl) dJ16_addExact_31)
  · cases hE
    exact x_arith X hl0 hnx hS0 hX hl.1 rfl dJ16_addExact_19 dJ16_addExact_22 dJ16_addExact_23 dJ16_addExact_25 dJ16_addExact_28 (Nat.le_of_ble_eq_true rfl) (Nat.le_of_ble_eq_true rfl) (Nat.le_of_ble_eq_true rfl) (Nat.le_of_ble_eq_true rfl) (Nat.le_of_ble_eq_true rfl) (Nat.le_of_ble_eq_true rfl)
theorem mx_J16_addExact (l : Launch) (hl0 : l.stackTraces = false) (G : GG) (ad : Nat → Nat) (M : RM) (a1 : Int) (a2 : Int)  {out : ((Int ⊕ Int) × RM)} (hE : f_J16_addExact M a1 a2 = some out) : MXE l yJ16_addExact (ws_ yJ16_addExact cJ16_addExact 6 (some .long)) 8 1 6 G ad [vL a1, vL a2] M AE (fun v => some (vL v)) out :=
  MXE.of (by decide +kernel) (Nat.le_of_ble_eq_true rfl) rfl (fun p e s m below meth c ls hp0 X hnx hS0 hX hl => wb_J16_addExact X hl0 hnx hS0 hE hX hl)
def f_J16_subtractExact (M : RM) (a1 : Int) (a2 : Int) : Option ((Int ⊕ Int) × RM) :=
  jn (a1 - a2) fun v1 => if 0 ≤ w64 (lAnd (lXor a1 a2) (lXor a1 v1)) then (some (.inl v1, M)) else (some (.inr 0, M))
theorem hd_J16_subtractExact : yJ16_subtractExact.cls ≠ "java/lang/invoke/MethodHandle" ∧ yJ16_subtractExact.cls ≠ "java/lang/invoke/VarHandle" ∧ (parseMethodDescriptor yJ16_subtractExact.desc).map (fun d => d.parameters.length) = some 2 := by decide +kernel
theorem wb_J16_subtractExact {p : Program} {l : Launch} {e : Env} {s : State} {m : MethodId} {args : Array Value} {below : List Frame} {meth : Method} {c : Code} {G : GG} {ad : Nat → Nat} (X : CX p s m args meth c cJ16_subtractExact 6 RJ16 (some .long) G) (hl0 : l.stackTraces = false) (hnx : ∀ x ∈ c.exceptionTable.toList, False) (hS0 : ∃ hpS : HP, WR G hpS s.heap) {M : RM} {a1 : Int} {a2 : Int}  {out : ((Int ⊕ Int) × RM)} (hE : f_J16_subtractExact M a1 a2 = some out) {H : Heap} {locs : List Loc} {ls : Array Slot} {hp0 : HP} (hX : XR G ad hp0 M H locs) (hl : lv_has ls 6 [(0, vL a1), (2, vL a2)]) : W p l e (rmA 8 1 6) s m args below meth c H locs 0 0 (QXE below G ad args s 1 6 AE (fun v => some (vL v)) out) (F0 m 0 ls []) := by
  unfold f_J16_subtractExact at hE
  refine e_lload_n X hl 0 rfl dJ16_subtractExact_0 rfl ?_
  refine e_lload_n X hl 1 rfl dJ16_subtractExact_1 rfl ?_
  refine e_lsub X dJ16_subtractExact_2 ?_
  refine e_topl hE (fun v1 hE => ?_)
  refine e_lstore X hl [(4, vL v1), (0, vL a1), (2, vL a2)] dJ16_subtractExact_3 (by decide) rfl (fun ls hl => ?_)
  refine e_lload_n X hl 1 rfl dJ16_subtractExact_5 rfl ?_
  refine e_lload_n X hl 2 rfl dJ16_subtractExact_6 rfl ?_
  refine e_lxor X dJ16_subtractExact_7 ?_
  refine e_lload_n X hl 1 rfl dJ16_subtractExact_8 rfl ?_
  refine e_lload X hl 0 rfl dJ16_subtractExact_9 ?_
  refine e_lxor X dJ16_subtractExact_11 ?_
  refine e_land X dJ16_subtractExact_12 ?_
  refine e_lconst X 0 dJ16_subtractExact_13 (by decide) ?_
  refine e_lcmp_ge X (w64 (lAnd (lXor a1 a2) (lXor a1 v1))) 0 rfl (by decide) hE dJ16_subtractExact_14 dJ16_subtractExact_15 rfl (fun hE => ?_) (fun hE => ?_)
  · refine e_lload X hl 0 rfl dJ16_subtractExact_28 ?_
    cases hE
    exact vx_ret (x_lret X hX (⟨v1, rfl, rfl, rfl⟩) (Nat.le_of_ble_eq_true rfl) (Nat.le_of_ble_eq_true rfl) dJ16_subtractExact_30)
  · cases hE
    exact x_arith X hl0 hnx hS0 hX hl.1 rfl dJ16_subtractExact_18 dJ16_subtractExact_21 dJ16_subtractExact_22 dJ16_subtractExact_24 dJ16_subtractExact_27 (Nat.le_of_ble_eq_true rfl) (Nat.le_of_ble_eq_true rfl) (Nat.le_of_ble_eq_true rfl) (Nat.le_of_ble_eq_true rfl) (Nat.le_of_ble_eq_true rfl) (Nat.le_of_ble_eq_true rfl)
theorem mx_J16_subtractExact (l : Launch) (hl0 : l.stackTraces = false) (G : GG) (ad : Nat → Nat) (M : RM) (a1 : Int) (a2 : Int)  {out : ((Int ⊕ Int) × RM)} (hE : f_J16_subtractExact M a1 a2 = some out) : MXE l yJ16_subtractExact (ws_ yJ16_subtractExact cJ16_subtractExact 6 (some .long)) 8 1 6 G ad [vL a1, vL a2] M AE (fun v => some (vL v)) out :=
  MXE.of (by decide +kernel) (Nat.le_of_ble_eq_true rfl) rfl (fun p e s m below meth c ls hp0 X hnx hS0 hX hl => wb_J16_subtractExact X hl0 hnx hS0 hE hX hl)
def f_X1_total_L4 (b : Nat) (N : Nat)  (k : RM → Int → Int → Option ((Int ⊕ Int) × RM)) : Nat → RM → Int → Int → Option ((Int ⊕ Int) × RM)
  | 0, _, _, _ => none
  | n + 1, M, x1, x3 =>
    if w32 (M (b + 20) 13) ≤ w32 x3 then (k M x1 x3) else (ob (gA 25 M (b + 4) x3) fun v1 => ob (gA 25 M (b + 5) x3) fun v2 => ob2 (f_J16_multiplyExact M v1 (w32 v2)) fun r3 M4 => tc r3 (fun v5 => ob2 (f_J16_addExact M4 x1 v5) fun r8 M9 => tc r8 (fun v10 => jn (x3 + 1) fun v13 => f_X1_total_L4 b N  k n M9 v10 v13) (fun pl11 => some (.inr pl11, M9))) (fun pl6 => some (.inr pl6, M4)))
def f_X1_total (b : Nat) (N : Nat) (M : RM)  : Option ((Int ⊕ Int) × RM) :=
  f_X1_total_L4 b N  (fun (M14 : RM) (v15 : Int) (v16 : Int) => some (.inl v15, M14)) 25 M 0 0
theorem hd_X1_total : yX1_total.cls = RX1 ∧ yX1_total.cls ≠ "java/lang/invoke/MethodHandle" ∧ yX1_total.cls ≠ "java/lang/invoke/VarHandle" ∧ (parseMethodDescriptor yX1_total.desc).map (fun d => d.parameters.length) = some 0 := by decide +kernel
theorem wl_X1_total_4 {p : Program} {l : Launch} {e : Env} {s : State} {m : MethodId} {args : Array Value} {below : List Frame} {meth : Method} {c : Code} {G : GG} {ad : Nat → Nat} {b : Nat} (hb : NB dX b) (X : CX p s m args meth c cX1_total 4 RX1 (some .long) G) (hl0 : l.stackTraces = false) (hnx : ∀ x ∈ c.exceptionTable.toList, False) (hS0 : ∃ hpS : HP, WR G hpS s.heap) {N : Nat}  {k : RM → Int → Int → Option ((Int ⊕ Int) × RM)} {out : ((Int ⊕ Int) × RM)} : ∀ (n : Nat) (cc ss : Nat) (hcc : cc + n * 2 ≤ 50) (hss : ss + n * 12 ≤ 300) (M : RM) (x1 : Int) (x3 : Int) (hp0 : HP) (H : Heap) (locs : List Loc) (ls : Array Slot) (hE : f_X1_total_L4 b N  k n M x1 x3 = some out) (hX : XR G ad hp0 M H locs) (hl : lv_has ls 4 [(0, .ref (ad (b + 20))), (1, vL x1), (3, vI x3)]) (hk : ∀ (M : RM) (x1 : Int) (x3 : Int) (hp0 : HP) (H : Heap) (locs : List Loc) (ls : Array Slot), XR G ad hp0 M H locs → lv_has ls 4 [(0, .ref (ad (b + 20))), (1, vL x1), (3, vI x3)] → k M x1 x3 = some out → W p l e (rmA 9 50 300) s m args below meth c H locs (50) (300) (QXE below G ad args s 50 300 AE (fun v => some (vL v)) out) (F0 m 39 ls [])), W p l e (rmA 9 50 300) s m args below meth c H locs (cc) (ss) (QXE below G ad args s 50 300 AE (fun v => some (vL v)) out) (F0 m 4 ls []) := by
  intro n
  induction n with
  | zero =>
    intro cc ss hcc hss M x1 x3 hp0 H locs ls hE hX hl hk
    unfold f_X1_total_L4 at hE
    cases hE
  | succ n ih =>
    intro cc ss hcc hss M x1 x3 hp0 H locs ls hE hX hl hk
    unfold f_X1_total_L4 at hE
    refine e_iload_n X hl 2 rfl dX1_total_4 rfl ?_
    refine e_aload_n X hl 0 rfl dX1_total_5 rfl ?_
    refine r_getI X hX.1 ck_X1 (b + 20) 13 (dn hb 20 rfl) rfl (by decide) q684 rfl dX1_total_6 ?_
    refine e_icmp_ge X (w32 x3) (w32 (M (b + 20) 13)) rfl rfl hE dX1_total_9 rfl (fun hE => ?_) (fun hE => ?_)
    · refine W.widen (k := 50) (n := 300) (by omega) (by omega) ?_
      exact hk M x1 x3 _ _ _ _ hX (lv_sub hl [0, 1, 2] rfl) hE
    · refine e_lload_n X hl 1 rfl dX1_total_12 rfl ?_
      refine e_aload_n X hl 0 rfl dX1_total_13 rfl ?_
      refine r_getR X hX.1 ck_X1 (b + 20) 4 (dn hb 20 rfl) rfl (by decide) q670 rfl dX1_total_14 ?_
      refine e_iload_n X hl 2 rfl dX1_total_17 rfl ?_
      refine r_lald X hX.1 (b + 4) (dn hb 4 rfl) (Nat.le_of_ble_eq_true rfl) hE dX1_total_18 (fun v1 hE => ?_)
      refine e_aload_n X hl 0 rfl dX1_total_19 rfl ?_
      refine r_getR X hX.1 ck_X1 (b + 20) 5 (dn hb 20 rfl) rfl (by decide) q672 rfl dX1_total_20 ?_
      refine e_iload_n X hl 2 rfl dX1_total_23 rfl ?_
      refine r_iald X hX.1 (b + 5) (dn hb 5 rfl) (Nat.le_of_ble_eq_true rfl) hE dX1_total_24 (fun v2 hE => ?_)
      refine e_i2l X dX1_total_25 ?_
      obtain ⟨r3, M4, h, hE⟩ := ob2_some hE
      refine x_callSE (rest := [vL x1]) X hX (mx_J16_multiplyExact l hl0 G ad M v1 (w32 v2) h) (va_cwS 2 X.ht (lw_S q2248 q2249 q145 q2250) rfl rfl rfl hd_J16_multiplyExact (cxH (by decide) (by decide))) hE rfl hl.1 rfl (Nat.le_of_ble_eq_true rfl) dX1_total_26 ⟨(Nat.le_trans (show cc + 1 ≤ 50 by omega) (Nat.le_of_ble_eq_true rfl)), (Nat.le_trans (show ss + 6 ≤ 300 by omega) (Nat.le_of_ble_eq_true rfl))⟩ (cc + 1) (ss + 6) rfl rfl (fun v5 hE hp0 H locs hX => ?_) (fun pl6 hE q7 hp0 H locs hX hTq7 => ?_)
      · obtain ⟨r8, M9, h, hE⟩ := ob2_some hE
        refine x_callSE (rest := []) X hX (mx_J16_addExact l hl0 G ad M4 x1 v5 h) (va_cwS 2 X.ht (lw_S q2259 q2260 q145 q2261) rfl rfl rfl hd_J16_addExact (cxH (by decide) (by decide))) hE rfl hl.1 rfl (Nat.le_of_ble_eq_true rfl) dX1_total_29 ⟨(Nat.le_trans (show cc + 2 ≤ 50 by omega) (Nat.le_of_ble_eq_true rfl)), (Nat.le_trans (show ss + 12 ≤ 300 by omega) (Nat.le_of_ble_eq_true rfl))⟩ (cc + 2) (ss + 12) rfl rfl (fun v10 hE hp0 H locs hX => ?_) (fun pl11 hE q12 hp0 H locs hX hTq12 => ?_)
        · refine e_lstore_n X hl [(1, vL v10), (0, .ref (ad (b + 20))), (3, vI x3)] dX1_total_32 rfl (by decide) rfl (fun ls hl => ?_)
          refine e_iinc X hl 2 hE (fun v13 => [(3, vI v13), (1, vL v10), (0, .ref (ad (b + 20)))]) rfl dX1_total_33 (by decide) (fun _ => rfl) (fun v13 hE ls hl => ?_)
          refine e_goto X dX1_total_36 rfl ?_
          refine W.widen (k := cc + 2) (n := ss + 12) (by omega) (by omega) ?_
          exact ih _ _ (by omega) (by omega) M9 v10 v13 _ _ _ _ hE hX (lv_sub hl [2, 1, 0] rfl) hk
        · cases hE
          exact x_out X (fun x hx => (hnx x hx).elim) hX hTq12 rfl (Nat.le_trans (show cc + 2 ≤ 50 by omega) (Nat.le_of_ble_eq_true rfl)) (Nat.le_trans (show ss + 12 ≤ 300 by omega) (Nat.le_of_ble_eq_true rfl))
      · cases hE
        exact x_out X (fun x hx => (hnx x hx).elim) hX hTq7 rfl (Nat.le_trans (show cc + 1 ≤ 50 by omega) (Nat.le_of_ble_eq_true rfl)) (Nat.le_trans (show ss + 6 ≤ 300 by omega) (Nat.le_of_ble_eq_true rfl))
theorem wb_X1_total {p : Program} {l : Launch} {e : Env} {s : State} {m : MethodId} {args : Array Value} {below : List Frame} {meth : Method} {c : Code} {G : GG} {ad : Nat → Nat} {b : Nat} (hb : NB dX b) (X : CX p s m args meth c cX1_total 4 RX1 (some .long) G) (hl0 : l.stackTraces = false) (hnx : ∀ x ∈ c.exceptionTable.toList, False) (hS0 : ∃ hpS : HP, WR G hpS s.heap) {N : Nat} {M : RM}  {out : ((Int ⊕ Int) × RM)} (hE : f_X1_total b N M = some out) {H : Heap} {locs : List Loc} {ls : Array Slot} {hp0 : HP} (hX : XR G ad hp0 M H locs) (hl : lv_has ls 4 [(0, .ref (ad (b + 20)))]) : W p l e (rmA 9 50 300) s m args below meth c H locs 0 0 (QXE below G ad args s 50 300 AE (fun v => some (vL v)) out) (F0 m 0 ls []) := by
  unfold f_X1_total at hE
  refine e_lconst X 0 dX1_total_0 (by decide) ?_
  refine e_lstore_n X hl [(1, vL 0), (0, .ref (ad (b + 20)))] dX1_total_1 rfl (by decide) rfl (fun ls hl => ?_)
  refine e_iconst X dX1_total_2 ?_
  refine e_istore_n X hl [(3, vI 0), (1, vL 0), (0, .ref (ad (b + 20)))] dX1_total_3 rfl (by decide) rfl (fun ls hl => ?_)
  refine wl_X1_total_4 hb X hl0 hnx hS0 _ _ _ (Nat.le_of_ble_eq_true rfl) (Nat.le_of_ble_eq_true rfl) M 0 0 _ _ _ _ hE hX (lv_sub hl [2, 1, 0] rfl) (fun M14 v15 v16 hp0 H locs ls hX hl hE => ?_)
  refine e_lload_n X hl 1 rfl dX1_total_39 rfl ?_
  cases hE
  exact vx_ret (x_lret X hX (⟨v15, rfl, rfl, rfl⟩) (Nat.le_of_ble_eq_true rfl) (Nat.le_of_ble_eq_true rfl) dX1_total_40)
theorem mx_X1_total (l : Launch) (hl0 : l.stackTraces = false) (G : GG) (ad : Nat → Nat) (b : Nat) (hb : NB dX b) {N : Nat} (M : RM)   {out : ((Int ⊕ Int) × RM)} (hE : f_X1_total b N M = some out) : MXE l yX1_total (ws_ yX1_total cX1_total 4 (some .long)) 9 50 300 G ad [.ref (ad (b + 20))] M AE (fun v => some (vL v)) out :=
  MXE.of (by decide +kernel) (Nat.le_of_ble_eq_true rfl) rfl (fun p e s m below meth c ls hp0 X hnx hS0 hX hl => wb_X1_total hb X hl0 hnx hS0 hE hX hl)
def f_X0_is (N : Nat) (M : RM)  : Option (Int × RM) :=
  ob2 (f_X0_isFlow N M) fun v1 M2 => if ¬ w32 v1 = 0 then (ob2 (f_X1_total 100 N M2) fun r3 M4 => tc r3 (fun v5 => some (1, M4)) (fun pl6 => some ((-6), M4))) else (some ((-3), M2))
theorem hd_X0_is : yX0_is.cls = RX0 ∧ yX0_is.cls ≠ "java/lang/invoke/MethodHandle" ∧ yX0_is.cls ≠ "java/lang/invoke/VarHandle" ∧ (parseMethodDescriptor yX0_is.desc).map (fun d => d.parameters.length) = some 0 := by decide +kernel
theorem wb_X0_is {p : Program} {l : Launch} {e : Env} {s : State} {m : MethodId} {args : Array Value} {below : List Frame} {meth : Method} {c : Code} {G : GG} {ad : Nat → Nat} (X : CX p s m args meth c cX0_is 2 RX0 (some .int) G) (hl0 : l.stackTraces = false) (hnx : c.exceptionTable.toList = tableOf [(10, 19, 20, 365)]) (hS0 : ∃ hpS : HP, WR G hpS s.heap) {N : Nat} {M : RM}  {out : (Int × RM)} (hE : f_X0_is N M = some out) {H : Heap} {locs : List Loc} {ls : Array Slot} {hp0 : HP} (hX : XR G ad hp0 M H locs) (hl : lv_has ls 2 [(0, .ref (ad 40))]) : W p l e (rmA 12 51 305) s m args below meth c H locs 0 0 (QX below G ad args s 51 305 (Zd (some (vI out.1)) out.2)) (F0 m 0 ls []) := by
  unfold f_X0_is at hE
  refine e_aload_n X hl 0 rfl dX0_is_0 rfl ?_
  obtain ⟨v1, M2, h, hE⟩ := ob2_some hE
  refine x_callV1 (rest := []) X hX 40 rfl ck_X0 (mx_X0_isFlow l G ad M h) (cwV 0 X.ht (lw_V q2067 q2069 qs37 q127 q2070) rfl rfl rfl hd_X0_isFlow (cxH (by decide) (by decide))) rfl hl.1 rfl (Nat.le_of_ble_eq_true rfl) dX0_is_1 ⟨(Nat.le_of_ble_eq_true rfl), (Nat.le_of_ble_eq_true rfl)⟩ (1) (5) rfl rfl (fun hp0 H locs hX => ?_)
  refine e_if_ne X (w32 v1) rfl hE dX0_is_4 rfl (fun hE => ?_) (fun hE => ?_)
  · refine e_aload_n X hl 0 rfl dX0_is_10 rfl ?_
    refine r_getR X hX.1 ck_X0 40 3 rfl rfl (by decide) q1228 rfl dX0_is_11 ?_
    obtain ⟨r3, M4, h, hE⟩ := ob2_some hE
    refine x_callVE (rest := []) X hX (100 + 20) (dn nb1 20 rfl) ck_X1 (mx_X1_total l hl0 G ad 100 nb1 M2 h) (cwV 0 X.ht (lw_V q2244 q2245 q2246 q132 q2247) rfl rfl rfl hd_X1_total (cxH (by decide) (by decide))) hE rfl hl.1 rfl (Nat.le_of_ble_eq_true rfl) dX0_is_14 ⟨(Nat.le_of_ble_eq_true rfl), (Nat.le_of_ble_eq_true rfl)⟩ (51) (305) rfl rfl (fun v5 hE hp0 H locs hX => ?_) (fun pl6 hE q7 hp0 H locs hX hTq7 => ?_)
    · refine e_pop2 X dX0_is_17 rfl ?_
      refine e_iconst X dX0_is_18 ?_
      cases hE
      exact x_zret (x := 1) X hX ⟨rfl, rfl⟩ rfl (Nat.le_of_ble_eq_true rfl) (Nat.le_of_ble_eq_true rfl) dX0_is_19
    · refine x_catch X hTq7 [] ⟨10, 19, 20, 365⟩ [] hnx (fun z hz => nomatch hz) (by decide) (by decide) q2053 q2065 ?_
      refine e_astore_n X hl [(1, .ref q7), (0, .ref (ad 40))] dX0_is_20 rfl (by decide) rfl (fun ls hl => ?_)
      refine e_bipush X dX0_is_21 (by decide) ?_
      cases hE
      exact x_zret (x := (-6)) X hX ⟨rfl, rfl⟩ rfl (Nat.le_of_ble_eq_true rfl) (Nat.le_of_ble_eq_true rfl) dX0_is_23
  · refine e_bipush X dX0_is_7 (by decide) ?_
    cases hE
    exact x_zret (x := (-3)) X hX ⟨rfl, rfl⟩ rfl (Nat.le_of_ble_eq_true rfl) (Nat.le_of_ble_eq_true rfl) dX0_is_9
theorem mx_X0_is (l : Launch) (hl0 : l.stackTraces = false) (G : GG) (ad : Nat → Nat) {N : Nat} (M : RM)   {out : (Int × RM)} (hE : f_X0_is N M = some out) : MX l yX0_is (wsW_ yX0_is cX0_is 2 (some .int) [(10, 19, 20, 365)]) 12 51 305 G ad [.ref (ad 40)] M (Zd (some (vI out.1)) out.2) :=
  MX.ofT (by decide +kernel) (Nat.le_of_ble_eq_true rfl) rfl (fun p e s m below meth c ls hp0 X hnx hS0 hX hl => wb_X0_is X hl0 hnx hS0 hE hX hl)
def f_X0_total (N : Nat) (M : RM)  : Option (Int × RM) :=
  ob2 (f_X0_isFlow N M) fun v1 M2 => if ¬ w32 v1 = 0 then (ob2 (f_X1_total 100 N M2) fun r3 M4 => tc r3 (fun v5 => some (v5, M4)) (fun pl6 => some ((-9223372036854775808), M4))) else (some ((-9223372036854775808), M2))
theorem hd_X0_total : yX0_total.cls = RX0 ∧ yX0_total.cls ≠ "java/lang/invoke/MethodHandle" ∧ yX0_total.cls ≠ "java/lang/invoke/VarHandle" ∧ (parseMethodDescriptor yX0_total.desc).map (fun d => d.parameters.length) = some 0 := by decide +kernel
theorem wb_X0_total {p : Program} {l : Launch} {e : Env} {s : State} {m : MethodId} {args : Array Value} {below : List Frame} {meth : Method} {c : Code} {G : GG} {ad : Nat → Nat} (X : CX p s m args meth c cX0_total 2 RX0 (some .long) G) (hl0 : l.stackTraces = false) (hnx : c.exceptionTable.toList = tableOf [(11, 18, 19, 365)]) (hS0 : ∃ hpS : HP, WR G hpS s.heap) {N : Nat} {M : RM}  {out : (Int × RM)} (hE : f_X0_total N M = some out) {H : Heap} {locs : List Loc} {ls : Array Slot} {hp0 : HP} (hX : XR G ad hp0 M H locs) (hl : lv_has ls 2 [(0, .ref (ad 40))]) : W p l e (rmA 12 51 305) s m args below meth c H locs 0 0 (QX below G ad args s 51 305 (Zd (some (vL out.1)) out.2)) (F0 m 0 ls []) := by
  unfold f_X0_total at hE
  refine e_aload_n X hl 0 rfl dX0_total_0 rfl ?_
  obtain ⟨v1, M2, h, hE⟩ := ob2_some hE
  refine x_callV1 (rest := []) X hX 40 rfl ck_X0 (mx_X0_isFlow l G ad M h) (cwV 0 X.ht (lw_V q2067 q2069 qs37 q127 q2070) rfl rfl rfl hd_X0_isFlow (cxH (by decide) (by decide))) rfl hl.1 rfl (Nat.le_of_ble_eq_true rfl) dX0_total_1 ⟨(Nat.le_of_ble_eq_true rfl), (Nat.le_of_ble_eq_true rfl)⟩ (1) (5) rfl rfl (fun hp0 H locs hX => ?_)
  refine e_if_ne X (w32 v1) rfl hE dX0_total_4 rfl (fun hE => ?_) (fun hE => ?_)
  · refine e_aload_n X hl 0 rfl dX0_total_11 rfl ?_
    refine r_getR X hX.1 ck_X0 40 3 rfl rfl (by decide) q1228 rfl dX0_total_12 ?_
    obtain ⟨r3, M4, h, hE⟩ := ob2_some hE
    refine x_callVE (rest := []) X hX (100 + 20) (dn nb1 20 rfl) ck_X1 (mx_X1_total l hl0 G ad 100 nb1 M2 h) (cwV 0 X.ht (lw_V q2244 q2245 q2246 q132 q2247) rfl rfl rfl hd_X1_total (cxH (by decide) (by decide))) hE rfl hl.1 rfl (Nat.le_of_ble_eq_true rfl) dX0_total_15 ⟨(Nat.le_of_ble_eq_true rfl), (Nat.le_of_ble_eq_true rfl)⟩ (51) (305) rfl rfl (fun v5 hE hp0 H locs hX => ?_) (fun pl6 hE q7 hp0 H locs hX hTq7 => ?_)
    · cases hE
      exact x_lret X hX ⟨rfl, rfl⟩ (Nat.le_of_ble_eq_true rfl) (Nat.le_of_ble_eq_true rfl) dX0_total_18
    · refine x_catch X hTq7 [] ⟨11, 18, 19, 365⟩ [] hnx (fun z hz => nomatch hz) (by decide) (by decide) q2053 q2065 ?_
      refine e_astore_n X hl [(1, .ref q7), (0, .ref (ad 40))] dX0_total_19 rfl (by decide) rfl (fun ls hl => ?_)
      refine e_ldc2 X (-9223372036854775808) q1943 (by decide) dX0_total_20 ?_
      cases hE
      exact x_lret X hX ⟨rfl, rfl⟩ (Nat.le_of_ble_eq_true rfl) (Nat.le_of_ble_eq_true rfl) dX0_total_23
  · refine e_ldc2 X (-9223372036854775808) q1943 (by decide) dX0_total_7 ?_
    cases hE
    exact x_lret X hX ⟨rfl, rfl⟩ (Nat.le_of_ble_eq_true rfl) (Nat.le_of_ble_eq_true rfl) dX0_total_10
theorem mx_X0_total (l : Launch) (hl0 : l.stackTraces = false) (G : GG) (ad : Nat → Nat) {N : Nat} (M : RM)   {out : (Int × RM)} (hE : f_X0_total N M = some out) : MX l yX0_total (wsW_ yX0_total cX0_total 2 (some .long) [(11, 18, 19, 365)]) 12 51 305 G ad [.ref (ad 40)] M (Zd (some (vL out.1)) out.2) :=
  MX.ofT (by decide +kernel) (Nat.le_of_ble_eq_true rfl) rfl (fun p e s m below meth c ls hp0 X hnx hS0 hX hl => wb_X0_total X hl0 hnx hS0 hE hX hl)
def f_X0_hasTotalWithout (N : Nat) (M : RM) (a1 : Int) : Option (Int × RM) :=
  ob (f_X0_lays M 200) fun M1 => ob (f_X1_removes 200 N M1 a1) fun M2 => jn (mg (dN 200) M2 M1) fun M3 => ob2 (f_X1_solve 200 N M3) fun v4 M5 => jn (mg (dN 200) M5 M3) fun M6 => if ¬ w32 v4 = 0 then (ob2 (f_X1_total 200 N M6) fun r7 M8 => tc r7 (fun v9 => jn (up2 M8 40 17 v9) fun M12 => some (1, M12)) (fun pl10 => some (0, M8))) else (some (0, M6))
theorem hd_X0_hasTotalWithout : yX0_hasTotalWithout.cls = RX0 ∧ yX0_hasTotalWithout.cls ≠ "java/lang/invoke/MethodHandle" ∧ yX0_hasTotalWithout.cls ≠ "java/lang/invoke/VarHandle" ∧ (parseMethodDescriptor yX0_hasTotalWithout.desc).map (fun d => d.parameters.length) = some 1 := by decide +kernel
theorem wb_X0_hasTotalWithout {p : Program} {l : Launch} {e : Env} {s : State} {m : MethodId} {args : Array Value} {below : List Frame} {meth : Method} {c : Code} {G : GG} {ad : Nat → Nat} (X : CX p s m args meth c cX0_hasTotalWithout 3 RX0 (some .boolean) G) (hl0 : l.stackTraces = false) (hnx : c.exceptionTable.toList = tableOf [(28, 40, 41, 365)]) (hS0 : ∃ hpS : HP, WR G hpS s.heap) {N : Nat} {M : RM} {a1 : Int}  {out : (Int × RM)} (hE : f_X0_hasTotalWithout N M a1 = some out) {H : Heap} {locs : List Loc} {ls : Array Slot} {hp0 : HP} (hX : XR G ad hp0 M H locs) (hl : lv_has ls 3 [(0, .ref (ad 40)), (1, vI a1)]) : W p l e (rmA 10 51 305) s m args below meth c H locs 0 0 (QX below G ad args s 51 305 (Zd (some (vI out.1)) out.2)) (F0 m 0 ls []) := by
  unfold f_X0_hasTotalWithout at hE
  refine e_aload_n X hl 0 rfl dX0_hasTotalWithout_0 rfl ?_
  refine e_aload_n X hl 0 rfl dX0_hasTotalWithout_1 rfl ?_
  refine r_getR X hX.1 ck_X0 40 4 rfl rfl (by decide) q1229 rfl dX0_hasTotalWithout_2 ?_
  obtain ⟨M1, h, hE⟩ := ob_some hE
  refine x_callV0 (rest := []) X hX 40 rfl ck_X0 (mx_X0_lays l G ad M 200 nb2 h) (cwV 1 X.ht (lw_V q2075 q2077 qs39 q127 q2078) rfl rfl rfl hd_X0_lays (cxH (by decide) (by decide))) rfl hl.1 rfl (Nat.le_of_ble_eq_true rfl) dX0_hasTotalWithout_5 ⟨(Nat.le_of_ble_eq_true rfl), (Nat.le_of_ble_eq_true rfl)⟩ (1) (5) rfl rfl (fun hp0 H locs hX => ?_)
  refine e_aload_n X hl 0 rfl dX0_hasTotalWithout_8 rfl ?_
  refine r_getR X hX.1 ck_X0 40 4 rfl rfl (by decide) q1229 rfl dX0_hasTotalWithout_9 ?_
  refine e_iload_n X hl 1 rfl dX0_hasTotalWithout_12 rfl ?_
  obtain ⟨M2, h, hE⟩ := ob_some hE
  refine x_subV0 (rest := []) X hX (subN nb2) rfl (200 + 20) (dn nb2 20 rfl) ck_X1 (fun hp => met_X1_removes l G ad hp 200 (nbN 200) M1 a1 h) (cwV 1 X.ht (lw_V q2585 q2586 q2587 q132 q2588) rfl rfl rfl hd_X1_removes (cxH (by decide) (by decide))) rfl hl.1 rfl (Nat.le_of_ble_eq_true rfl) dX0_hasTotalWithout_13 ⟨(Nat.le_of_ble_eq_true rfl), (Nat.le_of_ble_eq_true rfl)⟩ (fun H locs hX => ?_)
  obtain ⟨M3, hM3, hE⟩ := jn_ex hE
  rw [← hM3] at hX
  refine e_aload_n X hl 0 rfl dX0_hasTotalWithout_16 rfl ?_
  refine r_getR X hX.1 ck_X0 40 4 rfl rfl (by decide) q1229 rfl dX0_hasTotalWithout_17 ?_
  obtain ⟨v4, M5, h, hE⟩ := ob2_some hE
  refine x_subV1 (rest := []) X hX (subN nb2) rfl (200 + 20) (dn nb2 20 rfl) ck_X1 (fun hp => met_X1_solve l G ad hp 200 (nbN 200) M3 h) (cwV 0 X.ht (lw_V q2083 q2084 q2085 q132 q2086) rfl rfl rfl hd_X1_solve (cxH (by decide) (by decide))) rfl hl.1 rfl (Nat.le_of_ble_eq_true rfl) dX0_hasTotalWithout_20 ⟨(Nat.le_of_ble_eq_true rfl), (Nat.le_of_ble_eq_true rfl)⟩ (fun H locs hX => ?_)
  obtain ⟨M6, hM3, hE⟩ := jn_ex hE
  rw [← hM3] at hX
  refine e_if_ne X (w32 v4) rfl hE dX0_hasTotalWithout_23 rfl (fun hE => ?_) (fun hE => ?_)
  · refine e_aload_n X hl 0 rfl dX0_hasTotalWithout_28 rfl ?_
    refine e_aload_n X hl 0 rfl dX0_hasTotalWithout_29 rfl ?_
    refine r_getR X hX.1 ck_X0 40 4 rfl rfl (by decide) q1229 rfl dX0_hasTotalWithout_30 ?_
    obtain ⟨r7, M8, h, hE⟩ := ob2_some hE
    refine x_callVE (rest := [.ref (ad 40)]) X hX (200 + 20) (dn nb2 20 rfl) ck_X1 (mx_X1_total l hl0 G ad 200 nb2 M6 h) (cwV 0 X.ht (lw_V q2244 q2245 q2246 q132 q2247) rfl rfl rfl hd_X1_total (cxH (by decide) (by decide))) hE rfl hl.1 rfl (Nat.le_of_ble_eq_true rfl) dX0_hasTotalWithout_33 ⟨(Nat.le_of_ble_eq_true rfl), (Nat.le_of_ble_eq_true rfl)⟩ (51) (305) rfl rfl (fun v9 hE hp0 H locs hX => ?_) (fun pl10 hE q11 hp0 H locs hX hTq11 => ?_)
    · refine x_putJ X hX ck_X0 40 17 rfl (by decide) rfl (by decide) q1242 rfl rfl hE rfl dX0_hasTotalWithout_36 (fun M12 hE H locs hX => ?_)
      refine e_iconst X dX0_hasTotalWithout_39 ?_
      cases hE
      exact x_zret (x := 1) X hX ⟨rfl, rfl⟩ rfl (Nat.le_of_ble_eq_true rfl) (Nat.le_of_ble_eq_true rfl) dX0_hasTotalWithout_40
    · refine x_catch X hTq11 [] ⟨28, 40, 41, 365⟩ [] hnx (fun z hz => nomatch hz) (by decide) (by decide) q2053 q2065 ?_
      refine e_astore_n X hl [(2, .ref q11), (0, .ref (ad 40)), (1, vI a1)] dX0_hasTotalWithout_41 rfl (by decide) rfl (fun ls hl => ?_)
      refine e_iconst X dX0_hasTotalWithout_42 ?_
      cases hE
      exact x_zret (x := 0) X hX ⟨rfl, rfl⟩ rfl (Nat.le_of_ble_eq_true rfl) (Nat.le_of_ble_eq_true rfl) dX0_hasTotalWithout_43
  · refine e_iconst X dX0_hasTotalWithout_26 ?_
    cases hE
    exact x_zret (x := 0) X hX ⟨rfl, rfl⟩ rfl (Nat.le_of_ble_eq_true rfl) (Nat.le_of_ble_eq_true rfl) dX0_hasTotalWithout_27
theorem mx_X0_hasTotalWithout (l : Launch) (hl0 : l.stackTraces = false) (G : GG) (ad : Nat → Nat) {N : Nat} (M : RM) (a1 : Int)  {out : (Int × RM)} (hE : f_X0_hasTotalWithout N M a1 = some out) : MX l yX0_hasTotalWithout (wsW_ yX0_hasTotalWithout cX0_hasTotalWithout 3 (some .boolean) [(28, 40, 41, 365)]) 10 51 305 G ad [.ref (ad 40), vI a1] M (Zd (some (vI out.1)) out.2) :=
  MX.ofT (by decide +kernel) (Nat.le_of_ble_eq_true rfl) rfl (fun p e s m below meth c ls hp0 X hnx hS0 hX hl => wb_X0_hasTotalWithout X hl0 hnx hS0 hE hX hl)
