/-! 34 READ: number, expect, readSupply, by program (genRead.py) -/
set_option maxRecDepth 100000
def f_X0_number_L9 (N : Nat) (b1 : Int) (b2 : Int) (b3 : Int) (b4 : Int) (k : RM → Int → Option ((Int ⊕ Int) × RM)) : Nat → RM → Int → Option ((Int ⊕ Int) × RM)
  | 0, _, _ => none
  | n + 1, M, x5 =>
    if w32 b1 ≤ w32 ((M 40 11) - b4) then (k M x5) else (ob (f_X0_peek M) fun v2 => ob (f_X0_isIn M (w32 v2) 48 57) fun v3 => if w32 v3 = 0 then (k M x5) else (jn (up2 M 40 11 ((M 40 11) + 1)) fun M4 => ob (gA 120 M4 9 (M 40 11)) fun v5 => jn (((10 * x5) + v5) - 48) fun v6 => f_X0_number_L9 N b1 b2 b3 b4 k n M4 v6))
def f_X0_number (N : Nat) (M : RM) (a1 : Int) (a2 : Int) (a3 : Int) : Option ((Int ⊕ Int) × RM) :=
  jn (M 40 11) fun v1 => f_X0_number_L9 N a1 a2 a3 v1 (fun (M7 : RM) (v8 : Int) => if ¬ w32 (M7 40 11) = w32 v1 then (ob (f_X0_isIn M7 (w32 v8) (w32 a2) (w32 a3)) fun v9 => if ¬ w32 v9 = 0 then (some (.inl v8, M7)) else (some (.inr v1, M7))) else (some (.inr (M7 40 11), M7))) N M 0
theorem hd_X0_number : yX0_number.cls = RX0 ∧ yX0_number.cls ≠ "java/lang/invoke/MethodHandle" ∧ yX0_number.cls ≠ "java/lang/invoke/VarHandle" ∧ (parseMethodDescriptor yX0_number.desc).map (fun d => d.parameters.length) = some 3 := by decide +kernel
theorem wl_X0_number_9 {p : Program} {l : Launch} {e : Env} {s : State} {m : MethodId} {args : Array Value} {below : List Frame} {meth : Method} {c : Code} {G : GG} {ad : Nat → Nat} (X : CX p s m args meth c cX0_number 6 RX0 (some .int) G) (hl0 : l.stackTraces = false) (hnx : ∀ x ∈ c.exceptionTable.toList, False) (hS0 : ∃ hpS : HP, WR G hpS s.heap) {N : Nat} {b1 : Int} {b2 : Int} {b3 : Int} {b4 : Int} {k : RM → Int → Option ((Int ⊕ Int) × RM)} {out : ((Int ⊕ Int) × RM)} : ∀ (n : Nat) (M : RM) (x5 : Int) (hp0 : HP) (H : Heap) (locs : List Loc) (ls : Array Slot) (hE : f_X0_number_L9 N b1 b2 b3 b4 k n M x5 = some out) (hX : XR G ad hp0 M H locs) (hl : lv_has ls 6 [(0, .ref (ad 40)), (1, vI b1), (2, vI b2), (3, vI b3), (4, vI b4), (5, vI x5)]) (hk : ∀ (M : RM) (x5 : Int) (hp0 : HP) (H : Heap) (locs : List Loc) (ls : Array Slot), XR G ad hp0 M H locs → lv_has ls 6 [(0, .ref (ad 40)), (1, vI b1), (2, vI b2), (3, vI b3), (4, vI b4), (5, vI x5)] → k M x5 = some out → W p l e (rmA 5 1 7) s m args below meth c H locs (0) (0) (QXE below G ad args s 1 7 RX8 (fun v => some (vI v)) out) (F0 m 67 ls [])), W p l e (rmA 5 1 7) s m args below meth c H locs (0) (0) (QXE below G ad args s 1 7 RX8 (fun v => some (vI v)) out) (F0 m 9 ls []) := by
  intro n
  induction n with
  | zero =>
    intro M x5 hp0 H locs ls hE hX hl hk
    unfold f_X0_number_L9 at hE
    cases hE
  | succ n ih =>
    intro M x5 hp0 H locs ls hE hX hl hk
    unfold f_X0_number_L9 at hE
    refine e_aload_n X hl 0 rfl dX0_number_9 rfl ?_
    refine r_getI X hX.1 ck_X0 40 11 rfl rfl (by decide) q1236 rfl dX0_number_10 ?_
    refine e_iload X hl 4 rfl dX0_number_13 ?_
    refine e_isub X dX0_number_15 ?_
    refine e_iload_n X hl 1 rfl dX0_number_16 rfl ?_
    refine e_icmp_ge X (w32 ((M 40 11) - b4)) (w32 b1) rfl rfl hE dX0_number_17 rfl (fun hE => ?_) (fun hE => ?_)
    · exact hk M x5 _ _ _ _ hX (lv_sub hl [0, 1, 2, 3, 4, 5] rfl) hE
    · refine e_aload_n X hl 0 rfl dX0_number_20 rfl ?_
      obtain ⟨v2, h, hE⟩ := ob_some hE
      refine x_callV1 (rest := []) X hX 40 rfl ck_X0 (mx_X0_peek l G ad M h) (cwV 0 X.ht (lw_V q2019 q2021 qs32 q127 q2022) rfl rfl rfl hd_X0_peek (cxH (by decide) (by decide))) rfl hl.1 rfl (Nat.le_of_ble_eq_true rfl) dX0_number_21 ⟨(Nat.le_of_ble_eq_true rfl), (Nat.le_of_ble_eq_true rfl)⟩ (0) (0) rfl rfl (fun hp0 H locs hX => ?_)
      refine e_i2l X dX0_number_24 ?_
      refine e_ldc2 X 48 q2023 (by decide) dX0_number_25 ?_
      refine e_ldc2 X 57 q2024 (by decide) dX0_number_28 ?_
      obtain ⟨v3, h, hE⟩ := ob_some hE
      refine x_callS1 (rest := []) X hX (mx_X0_isIn l G ad M (w32 v2) 48 57 h) (va_cwS 3 X.ht (lw_S q1422 q1423 q127 q1424) rfl rfl rfl hd_X0_isIn (cxH (by decide) (by decide))) rfl hl.1 rfl (Nat.le_of_ble_eq_true rfl) dX0_number_31 ⟨(Nat.le_of_ble_eq_true rfl), (Nat.le_of_ble_eq_true rfl)⟩ (0) (0) rfl rfl (fun hp0 H locs hX => ?_)
      refine e_if_eq X (w32 v3) rfl hE dX0_number_34 rfl (fun hE => ?_) (fun hE => ?_)
      · exact hk M x5 _ _ _ _ hX (lv_sub hl [0, 1, 2, 3, 4, 5] rfl) hE
      · refine e_bipush X dX0_number_37 (by decide) ?_
        refine e_iload X hl 5 rfl dX0_number_39 ?_
        refine e_imul X dX0_number_41 ?_
        refine e_aload_n X hl 0 rfl dX0_number_42 rfl ?_
        refine r_getR X hX.1 ck_X0 40 9 rfl rfl (by decide) q1234 rfl dX0_number_43 ?_
        refine e_aload_n X hl 0 rfl dX0_number_46 rfl ?_
        refine e_dup X dX0_number_47 rfl ?_
        refine r_getI X hX.1 ck_X0 40 11 rfl rfl (by decide) q1236 rfl dX0_number_48 ?_
        refine e_dup_x1 X dX0_number_51 rfl rfl ?_
        refine e_iconst X dX0_number_52 ?_
        refine e_iadd X dX0_number_53 ?_
        refine x_putI X hX ck_X0 40 11 rfl (by decide) rfl (by decide) q1236 rfl rfl hE rfl dX0_number_54 (fun M4 hE H locs hX => ?_)
        refine r_bald X hX.1 9 rfl (Nat.le_of_ble_eq_true rfl) hE dX0_number_57 (fun v5 hE => ?_)
        refine e_iadd X dX0_number_58 ?_
        refine e_bipush X dX0_number_59 (by decide) ?_
        refine e_isub X dX0_number_61 ?_
        refine e_top hE (fun v6 hE => ?_)
        refine e_istore X hl [(5, vI v6), (0, .ref (ad 40)), (1, vI b1), (2, vI b2), (3, vI b3), (4, vI b4)] dX0_number_62 (by decide) rfl (fun ls hl => ?_)
        refine e_goto X dX0_number_64 rfl ?_
        exact ih M4 v6 _ _ _ _ hE hX (lv_sub hl [1, 2, 3, 4, 5, 0] rfl) hk
theorem wb_X0_number {p : Program} {l : Launch} {e : Env} {s : State} {m : MethodId} {args : Array Value} {below : List Frame} {meth : Method} {c : Code} {G : GG} {ad : Nat → Nat} (X : CX p s m args meth c cX0_number 6 RX0 (some .int) G) (hl0 : l.stackTraces = false) (hnx : ∀ x ∈ c.exceptionTable.toList, False) (hS0 : ∃ hpS : HP, WR G hpS s.heap) {N : Nat} {M : RM} {a1 : Int} {a2 : Int} {a3 : Int}  {out : ((Int ⊕ Int) × RM)} (hE : f_X0_number N M a1 a2 a3 = some out) {H : Heap} {locs : List Loc} {ls : Array Slot} {hp0 : HP} (hX : XR G ad hp0 M H locs) (hl : lv_has ls 6 [(0, .ref (ad 40)), (1, vI a1), (2, vI a2), (3, vI a3)]) : W p l e (rmA 5 1 7) s m args below meth c H locs 0 0 (QXE below G ad args s 1 7 RX8 (fun v => some (vI v)) out) (F0 m 0 ls []) := by
  unfold f_X0_number at hE
  refine e_aload_n X hl 0 rfl dX0_number_0 rfl ?_
  refine r_getI X hX.1 ck_X0 40 11 rfl rfl (by decide) q1236 rfl dX0_number_1 ?_
  refine e_top hE (fun v1 hE => ?_)
  refine e_istore X hl [(4, vI v1), (0, .ref (ad 40)), (1, vI a1), (2, vI a2), (3, vI a3)] dX0_number_4 (by decide) rfl (fun ls hl => ?_)
  refine e_iconst X dX0_number_6 ?_
  refine e_istore X hl [(5, vI 0), (4, vI v1), (0, .ref (ad 40)), (1, vI a1), (2, vI a2), (3, vI a3)] dX0_number_7 (by decide) rfl (fun ls hl => ?_)
  refine wl_X0_number_9 X hl0 hnx hS0 _ M 0 _ _ _ _ hE hX (lv_sub hl [2, 3, 4, 5, 1, 0] rfl) (fun M7 v8 hp0 H locs ls hX hl hE => ?_)
  refine e_aload_n X hl 0 rfl dX0_number_67 rfl ?_
  refine r_getI X hX.1 ck_X0 40 11 rfl rfl (by decide) q1236 rfl dX0_number_68 ?_
  refine e_iload X hl 4 rfl dX0_number_71 ?_
  refine e_icmp_ne X (w32 (M7 40 11)) (w32 v1) rfl rfl hE dX0_number_73 rfl (fun hE => ?_) (fun hE => ?_)
  · refine e_iload X hl 5 rfl dX0_number_88 ?_
    refine e_i2l X dX0_number_90 ?_
    refine e_iload_n X hl 2 rfl dX0_number_91 rfl ?_
    refine e_i2l X dX0_number_92 ?_
    refine e_iload_n X hl 3 rfl dX0_number_93 rfl ?_
    refine e_i2l X dX0_number_94 ?_
    obtain ⟨v9, h, hE⟩ := ob_some hE
    refine x_callS1 (rest := []) X hX (mx_X0_isIn l G ad M7 (w32 v8) (w32 a2) (w32 a3) h) (va_cwS 3 X.ht (lw_S q1422 q1423 q127 q1424) rfl rfl rfl hd_X0_isIn (cxH (by decide) (by decide))) rfl hl.1 rfl (Nat.le_of_ble_eq_true rfl) dX0_number_95 ⟨(Nat.le_of_ble_eq_true rfl), (Nat.le_of_ble_eq_true rfl)⟩ (0) (0) rfl rfl (fun hp0 H locs hX => ?_)
    refine e_if_ne X (w32 v9) rfl hE dX0_number_98 rfl (fun hE => ?_) (fun hE => ?_)
    · refine e_iload X hl 5 rfl dX0_number_111 ?_
      cases hE
      exact vx_ret (x_zret (x := v8) X hX (⟨v8, rfl, rfl, rfl⟩) rfl (Nat.le_of_ble_eq_true rfl) (Nat.le_of_ble_eq_true rfl) dX0_number_113)
    · refine x_newF X hX q1988 (Nat.le_of_ble_eq_true rfl) (Nat.le_of_ble_eq_true rfl) (1) (7) rfl rfl dX0_number_101 (fun q10 H locs hFq10 hX => ?_)
      refine e_dup X dX0_number_104 rfl ?_
      refine e_iload X hl 4 rfl dX0_number_105 ?_
      refine x_callF (rest := [.ref q10]) (pl := v1) X hFq10 (cwI 1 X.ht (lw_meth q1999) rfl rfl rfl (X.ht _ q179) (X.ht _ q1997) (X.ht _ q1998) rfl hd_X8_init (cxH (by decide) (by decide))) rfl hl.1 rfl (Nat.le_of_ble_eq_true rfl) dX0_number_107 ⟨(Nat.le_of_ble_eq_true rfl), (Nat.le_of_ble_eq_true rfl)⟩ (fun H locs hX hTq10 => ?_)
      refine x_athrow X dX0_number_110 ?_
      cases hE
      exact x_out X (fun x hx => (hnx x hx).elim) hX hTq10 rfl (Nat.le_of_ble_eq_true rfl) (Nat.le_of_ble_eq_true rfl)
  · refine x_newF X hX q1988 (Nat.le_of_ble_eq_true rfl) (Nat.le_of_ble_eq_true rfl) (1) (7) rfl rfl dX0_number_76 (fun q11 H locs hFq11 hX => ?_)
    refine e_dup X dX0_number_79 rfl ?_
    refine e_aload_n X hl 0 rfl dX0_number_80 rfl ?_
    refine r_getI X hX.1 ck_X0 40 11 rfl rfl (by decide) q1236 rfl dX0_number_81 ?_
    refine x_callF (rest := [.ref q11]) (pl := (M7 40 11)) X hFq11 (cwI 1 X.ht (lw_meth q1999) rfl rfl rfl (X.ht _ q179) (X.ht _ q1997) (X.ht _ q1998) rfl hd_X8_init (cxH (by decide) (by decide))) rfl hl.1 rfl (Nat.le_of_ble_eq_true rfl) dX0_number_84 ⟨(Nat.le_of_ble_eq_true rfl), (Nat.le_of_ble_eq_true rfl)⟩ (fun H locs hX hTq11 => ?_)
    refine x_athrow X dX0_number_87 ?_
    cases hE
    exact x_out X (fun x hx => (hnx x hx).elim) hX hTq11 rfl (Nat.le_of_ble_eq_true rfl) (Nat.le_of_ble_eq_true rfl)
theorem mx_X0_number (l : Launch) (hl0 : l.stackTraces = false) (G : GG) (ad : Nat → Nat) {N : Nat} (M : RM) (a1 : Int) (a2 : Int) (a3 : Int)  {out : ((Int ⊕ Int) × RM)} (hE : f_X0_number N M a1 a2 a3 = some out) : MXE l yX0_number (ws_ yX0_number cX0_number 6 (some .int)) 5 1 7 G ad [.ref (ad 40), vI a1, vI a2, vI a3] M RX8 (fun v => some (vI v)) out :=
  MXE.of (by decide +kernel) (Nat.le_of_ble_eq_true rfl) rfl (fun p e s m below meth c ls hp0 X hnx hS0 hX hl => wb_X0_number X hl0 hnx hS0 hE hX hl)
def f_X0_expect (M : RM) (a1 : Int) : Option ((Int ⊕ Int) × RM) :=
  ob2 (f_X0_skips M a1) fun v1 M2 => if ¬ w32 v1 = 0 then (some (.inl 0, M2)) else (some (.inr (M2 40 11), M2))
theorem hd_X0_expect : yX0_expect.cls = RX0 ∧ yX0_expect.cls ≠ "java/lang/invoke/MethodHandle" ∧ yX0_expect.cls ≠ "java/lang/invoke/VarHandle" ∧ (parseMethodDescriptor yX0_expect.desc).map (fun d => d.parameters.length) = some 1 := by decide +kernel
theorem wb_X0_expect {p : Program} {l : Launch} {e : Env} {s : State} {m : MethodId} {args : Array Value} {below : List Frame} {meth : Method} {c : Code} {G : GG} {ad : Nat → Nat} (X : CX p s m args meth c cX0_expect 2 RX0 none G) (hl0 : l.stackTraces = false) (hnx : ∀ x ∈ c.exceptionTable.toList, False) (hS0 : ∃ hpS : HP, WR G hpS s.heap) {M : RM} {a1 : Int}  {out : ((Int ⊕ Int) × RM)} (hE : f_X0_expect M a1 = some out) {H : Heap} {locs : List Loc} {ls : Array Slot} {hp0 : HP} (hX : XR G ad hp0 M H locs) (hl : lv_has ls 2 [(0, .ref (ad 40)), (1, vI a1)]) : W p l e (rmA 5 1 7) s m args below meth c H locs 0 0 (QXE below G ad args s 1 7 RX8 (fun _ => none) out) (F0 m 0 ls []) := by
  unfold f_X0_expect at hE
  refine e_aload_n X hl 0 rfl dX0_expect_0 rfl ?_
  refine e_iload_n X hl 1 rfl dX0_expect_1 rfl ?_
  obtain ⟨v1, M2, h, hE⟩ := ob2_some hE
  refine x_callV1 (rest := []) X hX 40 rfl ck_X0 (mx_X0_skips l G ad M a1 h) (cwV 1 X.ht (lw_V q2029 q2031 qs34 q127 q2032) rfl rfl rfl hd_X0_skips (cxH (by decide) (by decide))) rfl hl.1 rfl (Nat.le_of_ble_eq_true rfl) dX0_expect_2 ⟨(Nat.le_of_ble_eq_true rfl), (Nat.le_of_ble_eq_true rfl)⟩ (0) (0) rfl rfl (fun hp0 H locs hX => ?_)
  refine e_if_ne X (w32 v1) rfl hE dX0_expect_5 rfl (fun hE => ?_) (fun hE => ?_)
  · cases hE
    exact vx_ret (x_vret X hX (⟨0, rfl, rfl, rfl⟩) (Nat.le_of_ble_eq_true rfl) (Nat.le_of_ble_eq_true rfl) dX0_expect_20)
  · refine x_newF X hX q1988 (Nat.le_of_ble_eq_true rfl) (Nat.le_of_ble_eq_true rfl) (1) (7) rfl rfl dX0_expect_8 (fun q3 H locs hFq3 hX => ?_)
    refine e_dup X dX0_expect_11 rfl ?_
    refine e_aload_n X hl 0 rfl dX0_expect_12 rfl ?_
    refine r_getI X hX.1 ck_X0 40 11 rfl rfl (by decide) q1236 rfl dX0_expect_13 ?_
    refine x_callF (rest := [.ref q3]) (pl := (M2 40 11)) X hFq3 (cwI 1 X.ht (lw_meth q1999) rfl rfl rfl (X.ht _ q179) (X.ht _ q1997) (X.ht _ q1998) rfl hd_X8_init (cxH (by decide) (by decide))) rfl hl.1 rfl (Nat.le_of_ble_eq_true rfl) dX0_expect_16 ⟨(Nat.le_of_ble_eq_true rfl), (Nat.le_of_ble_eq_true rfl)⟩ (fun H locs hX hTq3 => ?_)
    refine x_athrow X dX0_expect_19 ?_
    cases hE
    exact x_out X (fun x hx => (hnx x hx).elim) hX hTq3 rfl (Nat.le_of_ble_eq_true rfl) (Nat.le_of_ble_eq_true rfl)
theorem mx_X0_expect (l : Launch) (hl0 : l.stackTraces = false) (G : GG) (ad : Nat → Nat) (M : RM) (a1 : Int)  {out : ((Int ⊕ Int) × RM)} (hE : f_X0_expect M a1 = some out) : MXE l yX0_expect (ws_ yX0_expect cX0_expect 2 none) 5 1 7 G ad [.ref (ad 40), vI a1] M RX8 (fun _ => none) out :=
  MXE.of (by decide +kernel) (Nat.le_of_ble_eq_true rfl) rfl (fun p e s m below meth c ls hp0 X hnx hS0 hX hl => wb_X0_expect X hl0 hnx hS0 hE hX hl)
def f_X0_readSupply (N : Nat) (M : RM)  : Option ((Int ⊕ Int) × RM) :=
  ob2 (f_X0_number N M 1 0 ((M 40 0) - 1)) fun r1 M2 => tc r1 (fun v3 => ob2 (f_X0_expect M2 61) fun r6 M7 => tc r6 (fun v8 => ob2 (f_X0_skips M7 45) fun v11 M12 => ob2 (f_X0_number N M12 2 0 99) fun r13 M14 => tc r13 (fun v15 => if w32 v11 = 0 then (ob (sA 8 M14 14 v3 v15) fun M18 => some (.inl 0, M18)) else (ob (sA 8 M14 14 v3 (-v15)) fun M19 => some (.inl 0, M19))) (fun pl16 => some (.inr pl16, M14))) (fun pl9 => some (.inr pl9, M7))) (fun pl4 => some (.inr pl4, M2))
theorem hd_X0_readSupply : yX0_readSupply.cls = RX0 ∧ yX0_readSupply.cls ≠ "java/lang/invoke/MethodHandle" ∧ yX0_readSupply.cls ≠ "java/lang/invoke/VarHandle" ∧ (parseMethodDescriptor yX0_readSupply.desc).map (fun d => d.parameters.length) = some 0 := by decide +kernel
theorem wb_X0_readSupply {p : Program} {l : Launch} {e : Env} {s : State} {m : MethodId} {args : Array Value} {below : List Frame} {meth : Method} {c : Code} {G : GG} {ad : Nat → Nat} (X : CX p s m args meth c cX0_readSupply 4 RX0 none G) (hl0 : l.stackTraces = false) (hnx : ∀ x ∈ c.exceptionTable.toList, False) (hS0 : ∃ hpS : HP, WR G hpS s.heap) {N : Nat} {M : RM}  {out : ((Int ⊕ Int) × RM)} (hE : f_X0_readSupply N M = some out) {H : Heap} {locs : List Loc} {ls : Array Slot} {hp0 : HP} (hX : XR G ad hp0 M H locs) (hl : lv_has ls 4 [(0, .ref (ad 40))]) : W p l e (rmA 6 3 21) s m args below meth c H locs 0 0 (QXE below G ad args s 3 21 RX8 (fun _ => none) out) (F0 m 0 ls []) := by
  unfold f_X0_readSupply at hE
  refine e_aload_n X hl 0 rfl dX0_readSupply_0 rfl ?_
  refine e_iconst X dX0_readSupply_1 ?_
  refine e_iconst X dX0_readSupply_2 ?_
  refine e_aload_n X hl 0 rfl dX0_readSupply_3 rfl ?_
  refine r_getI X hX.1 ck_X0 40 0 rfl rfl (by decide) q1224 rfl dX0_readSupply_4 ?_
  refine e_iconst X dX0_readSupply_7 ?_
  refine e_isub X dX0_readSupply_8 ?_
  obtain ⟨r1, M2, h, hE⟩ := ob2_some hE
  refine x_callVE (rest := []) X hX 40 rfl ck_X0 (mx_X0_number l hl0 G ad M 1 0 ((M 40 0) - 1) h) (cwV 3 X.ht (lw_V q2015 q2017 qs31 q127 q2018) rfl rfl rfl hd_X0_number (cxH (by decide) (by decide))) hE rfl hl.1 rfl (Nat.le_of_ble_eq_true rfl) dX0_readSupply_9 ⟨(Nat.le_of_ble_eq_true rfl), (Nat.le_of_ble_eq_true rfl)⟩ (1) (7) rfl rfl (fun v3 hE hp0 H locs hX => ?_) (fun pl4 hE q5 hp0 H locs hX hTq5 => ?_)
  · refine e_istore_n X hl [(1, vI v3), (0, .ref (ad 40))] dX0_readSupply_12 rfl (by decide) rfl (fun ls hl => ?_)
    refine e_aload_n X hl 1 rfl dX0_readSupply_13 rfl ?_
    refine e_bipush X dX0_readSupply_14 (by decide) ?_
    obtain ⟨r6, M7, h, hE⟩ := ob2_some hE
    refine x_callVE (rest := []) X hX 40 rfl ck_X0 (mx_X0_expect l hl0 G ad M2 61 h) (cwV 1 X.ht (lw_V q2025 q2027 qs33 q127 q2028) rfl rfl rfl hd_X0_expect (cxH (by decide) (by decide))) hE rfl hl.1 rfl (Nat.le_of_ble_eq_true rfl) dX0_readSupply_16 ⟨(Nat.le_of_ble_eq_true rfl), (Nat.le_of_ble_eq_true rfl)⟩ (2) (14) rfl rfl (fun v8 hE hp0 H locs hX => ?_) (fun pl9 hE q10 hp0 H locs hX hTq10 => ?_)
    · refine e_aload_n X hl 1 rfl dX0_readSupply_19 rfl ?_
      refine e_bipush X dX0_readSupply_20 (by decide) ?_
      obtain ⟨v11, M12, h, hE⟩ := ob2_some hE
      refine x_callV1 (rest := []) X hX 40 rfl ck_X0 (mx_X0_skips l G ad M7 45 h) (cwV 1 X.ht (lw_V q2029 q2031 qs34 q127 q2032) rfl rfl rfl hd_X0_skips (cxH (by decide) (by decide))) rfl hl.1 rfl (Nat.le_of_ble_eq_true rfl) dX0_readSupply_22 ⟨(Nat.le_of_ble_eq_true rfl), (Nat.le_of_ble_eq_true rfl)⟩ (2) (14) rfl rfl (fun hp0 H locs hX => ?_)
      refine e_istore_n X hl [(2, vI v11), (1, vI v3), (0, .ref (ad 40))] dX0_readSupply_25 rfl (by decide) rfl (fun ls hl => ?_)
      refine e_aload_n X hl 2 rfl dX0_readSupply_26 rfl ?_
      refine e_iconst X dX0_readSupply_27 ?_
      refine e_iconst X dX0_readSupply_28 ?_
      refine e_bipush X dX0_readSupply_29 (by decide) ?_
      obtain ⟨r13, M14, h, hE⟩ := ob2_some hE
      refine x_callVE (rest := []) X hX 40 rfl ck_X0 (mx_X0_number l hl0 G ad M12 2 0 99 h) (cwV 3 X.ht (lw_V q2015 q2017 qs31 q127 q2018) rfl rfl rfl hd_X0_number (cxH (by decide) (by decide))) hE rfl hl.1 rfl (Nat.le_of_ble_eq_true rfl) dX0_readSupply_31 ⟨(Nat.le_of_ble_eq_true rfl), (Nat.le_of_ble_eq_true rfl)⟩ (3) (21) rfl rfl (fun v15 hE hp0 H locs hX => ?_) (fun pl16 hE q17 hp0 H locs hX hTq17 => ?_)
      · refine e_istore_n X hl [(3, vI v15), (2, vI v11), (1, vI v3), (0, .ref (ad 40))] dX0_readSupply_34 rfl (by decide) rfl (fun ls hl => ?_)
        refine e_aload_n X hl 3 rfl dX0_readSupply_35 rfl ?_
        refine r_getR X hX.1 ck_X0 40 14 rfl rfl (by decide) q1239 rfl dX0_readSupply_36 ?_
        refine e_iload_n X hl 2 rfl dX0_readSupply_39 rfl ?_
        refine e_iload_n X hl 1 rfl dX0_readSupply_40 rfl ?_
        refine e_if_eq X (w32 v11) rfl hE dX0_readSupply_41 rfl (fun hE => ?_) (fun hE => ?_)
        · refine e_iload_n X hl 0 rfl dX0_readSupply_49 rfl ?_
          refine x_iast X hX 14 rfl (by decide) (Nat.le_of_ble_eq_true rfl) hE dX0_readSupply_50 (fun M18 hE H locs hX => ?_)
          cases hE
          exact vx_ret (x_vret X hX (⟨0, rfl, rfl, rfl⟩) (Nat.le_of_ble_eq_true rfl) (Nat.le_of_ble_eq_true rfl) dX0_readSupply_51)
        · refine e_iload_n X hl 0 rfl dX0_readSupply_44 rfl ?_
          refine e_ineg X dX0_readSupply_45 ?_
          refine e_goto X dX0_readSupply_46 rfl ?_
          refine x_iast X hX 14 rfl (by decide) (Nat.le_of_ble_eq_true rfl) hE dX0_readSupply_50 (fun M19 hE H locs hX => ?_)
          cases hE
          exact vx_ret (x_vret X hX (⟨0, rfl, rfl, rfl⟩) (Nat.le_of_ble_eq_true rfl) (Nat.le_of_ble_eq_true rfl) dX0_readSupply_51)
      · cases hE
        exact x_out X (fun x hx => (hnx x hx).elim) hX hTq17 rfl (Nat.le_of_ble_eq_true rfl) (Nat.le_of_ble_eq_true rfl)
    · cases hE
      exact x_out X (fun x hx => (hnx x hx).elim) hX hTq10 rfl (Nat.le_of_ble_eq_true rfl) (Nat.le_of_ble_eq_true rfl)
  · cases hE
    exact x_out X (fun x hx => (hnx x hx).elim) hX hTq5 rfl (Nat.le_of_ble_eq_true rfl) (Nat.le_of_ble_eq_true rfl)
theorem mx_X0_readSupply (l : Launch) (hl0 : l.stackTraces = false) (G : GG) (ad : Nat → Nat) {N : Nat} (M : RM)   {out : ((Int ⊕ Int) × RM)} (hE : f_X0_readSupply N M = some out) : MXE l yX0_readSupply (ws_ yX0_readSupply cX0_readSupply 4 none) 6 3 21 G ad [.ref (ad 40)] M RX8 (fun _ => none) out :=
  MXE.of (by decide +kernel) (Nat.le_of_ble_eq_true rfl) rfl (fun p e s m below meth c ls hp0 X hnx hS0 hX hl => wb_X0_readSupply X hl0 hnx hS0 hE hX hl)
