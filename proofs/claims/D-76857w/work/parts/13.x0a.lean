/-! FreightRoads: methods over the record, by program -/
set_option maxRecDepth 100000
def f_X0_lambda_new_4 (M0 : RM)  : Option Int :=
  some (M0 40 0)
theorem hd_X0_lambda_new_4 : yX0_lambda_new_4.cls = RX0 ∧ yX0_lambda_new_4.cls ≠ "java/lang/invoke/MethodHandle" ∧ yX0_lambda_new_4.cls ≠ "java/lang/invoke/VarHandle" ∧ (parseMethodDescriptor yX0_lambda_new_4.desc).map (fun d => d.parameters.length) = some 0 := by decide +kernel
theorem wb_X0_lambda_new_4 {p : Program} {l : Launch} {e : Env} {s : State} {m : MethodId} {args : Array Value} {below : List Frame} {meth : Method} {c : Code} {G : GG} {ad : Nat → Nat} {M0 : RM} (X : CX p s m args meth c cX0_lambda_new_4 1 RX0 (some .int) G)  {out : Int} (hE : f_X0_lambda_new_4 M0 = some out) {H : Heap} {locs : List Loc} {ls : Array Slot} {hp0 : HP} (hX : XR G ad hp0 M0 H locs) (hl : lv_has ls 1 [(0, .ref (ad 40))]) : W p l e (rmA 0 0 0) s m args below meth c H locs 0 0 (QX below G ad args s 0 0 (Zd (some (vI out)) M0)) (F0 m 0 ls []) := by
  unfold f_X0_lambda_new_4 at hE
  refine e_aload_n X hl 0 rfl dX0_lambda_new_4_0 rfl ?_
  refine r_getI X hX.1 ck_X0 40 0 rfl rfl (by decide) q1224 rfl dX0_lambda_new_4_1 ?_
  cases hE
  exact x_zret X hX ⟨rfl, rfl⟩ rfl (Nat.le_of_ble_eq_true rfl) (Nat.le_of_ble_eq_true rfl) dX0_lambda_new_4_4
theorem mx_X0_lambda_new_4 (l : Launch) (G : GG) (ad : Nat → Nat) (M0 : RM)   {out : Int} (hE : f_X0_lambda_new_4 M0 = some out) : MX l yX0_lambda_new_4 (ws_ yX0_lambda_new_4 cX0_lambda_new_4 1 (some .int)) 0 0 0 G ad [.ref (ad 40)] M0 (Zd (some (vI out)) M0) :=
  MX.of (by decide +kernel) (Nat.le_of_ble_eq_true rfl) rfl (fun p e s m below meth c ls hp0 X hX hl => wb_X0_lambda_new_4 X hE hX hl)
def f_X0_lambda_new_5 (M0 : RM)  : Option Int :=
  some (M0 2 1)
theorem hd_X0_lambda_new_5 : yX0_lambda_new_5.cls = RX0 ∧ yX0_lambda_new_5.cls ≠ "java/lang/invoke/MethodHandle" ∧ yX0_lambda_new_5.cls ≠ "java/lang/invoke/VarHandle" ∧ (parseMethodDescriptor yX0_lambda_new_5.desc).map (fun d => d.parameters.length) = some 0 := by decide +kernel
theorem wb_X0_lambda_new_5 {p : Program} {l : Launch} {e : Env} {s : State} {m : MethodId} {args : Array Value} {below : List Frame} {meth : Method} {c : Code} {G : GG} {ad : Nat → Nat} {M0 : RM} (X : CX p s m args meth c cX0_lambda_new_5 1 RX0 (some .int) G)  {out : Int} (hE : f_X0_lambda_new_5 M0 = some out) {H : Heap} {locs : List Loc} {ls : Array Slot} {hp0 : HP} (hX : XR G ad hp0 M0 H locs) (hl : lv_has ls 1 [(0, .ref (ad 40))]) : W p l e (rmA 1 0 0) s m args below meth c H locs 0 0 (QX below G ad args s 0 0 (Zd (some (vI out)) M0)) (F0 m 0 ls []) := by
  unfold f_X0_lambda_new_5 at hE
  refine e_aload_n X hl 0 rfl dX0_lambda_new_5_0 rfl ?_
  refine r_getR X hX.1 ck_X0 40 2 rfl rfl (by decide) q1226 rfl dX0_lambda_new_5_1 ?_
  refine x_callD1 (rest := []) X hX 2 (size_rec (Or.inl rfl)) ck_J3 (mx_size l G ad M0 2 (Or.inl rfl)) (cwV 0 X.ht (lw_V q785 q786 q787 q131 q788) rfl rfl rfl hd_J3_size (cxH (by decide) (by decide))) rfl hl.1 rfl (Nat.le_of_ble_eq_true rfl) dX0_lambda_new_5_4 ⟨Nat.le_of_ble_eq_true rfl, Nat.le_of_ble_eq_true rfl⟩ 0 0 rfl rfl (fun hp0 H locs hX => ?_)
  cases hE
  exact x_zret X hX ⟨rfl, rfl⟩ rfl (Nat.le_of_ble_eq_true rfl) (Nat.le_of_ble_eq_true rfl) dX0_lambda_new_5_7
theorem mx_X0_lambda_new_5 (l : Launch) (G : GG) (ad : Nat → Nat) (M0 : RM)   {out : Int} (hE : f_X0_lambda_new_5 M0 = some out) : MX l yX0_lambda_new_5 (ws_ yX0_lambda_new_5 cX0_lambda_new_5 1 (some .int)) 1 0 0 G ad [.ref (ad 40)] M0 (Zd (some (vI out)) M0) :=
  MX.of (by decide +kernel) (Nat.le_of_ble_eq_true rfl) rfl (fun p e s m below meth c ls hp0 X hX hl => wb_X0_lambda_new_5 X hE hX hl)
def f_X0_sumOfSupplies_L13 (N : Nat) (M0 : RM) (b3 : Int) (k : Int → Int → Option Int) : Nat → Int → Int → Option Int
  | 0, _, _ => none
  | n + 1, x1, x4 =>
    if w32 b3 ≤ w32 x4 then (k x1 x4) else (ob (gA 8 M0 1 x4) fun v2 => jn (x1 + v2) fun v3 => jn (x4 + 1) fun v4 => f_X0_sumOfSupplies_L13 N M0 b3 k n v3 v4)
def f_X0_sumOfSupplies (N : Nat) (M0 : RM)  : Option Int :=
  jn ((8 : Nat) : Int) fun v1 => f_X0_sumOfSupplies_L13 N M0 v1 (fun (v5 : Int) (v6 : Int) => some v5) N 0 0
theorem hd_X0_sumOfSupplies : yX0_sumOfSupplies.cls = RX0 ∧ yX0_sumOfSupplies.cls ≠ "java/lang/invoke/MethodHandle" ∧ yX0_sumOfSupplies.cls ≠ "java/lang/invoke/VarHandle" ∧ (parseMethodDescriptor yX0_sumOfSupplies.desc).map (fun d => d.parameters.length) = some 0 := by decide +kernel
theorem wl_X0_sumOfSupplies_13 {p : Program} {l : Launch} {e : Env} {s : State} {m : MethodId} {args : Array Value} {below : List Frame} {meth : Method} {c : Code} {G : GG} {ad : Nat → Nat} {M0 : RM} (X : CX p s m args meth c cX0_sumOfSupplies 6 RX0 (some .int) G) {N : Nat} {b3 : Int} {k : Int → Int → Option Int} {out : Int} : ∀ (n : Nat) (x1 : Int) (x4 : Int) (hp0 : HP) (H : Heap) (locs : List Loc) (ls : Array Slot) (hE : f_X0_sumOfSupplies_L13 N M0 b3 k n x1 x4 = some out) (hX : XR G ad hp0 M0 H locs) (hl : lv_has ls 6 [(1, vI x1), (2, .ref (ad 1)), (3, vI b3), (4, vI x4)]) (hk : ∀ (x1 : Int) (x4 : Int) (hp0 : HP) (H : Heap) (locs : List Loc) (ls : Array Slot), XR G ad hp0 M0 H locs → lv_has ls 6 [(1, vI x1), (2, .ref (ad 1)), (3, vI b3), (4, vI x4)] → k x1 x4 = some out → W p l e (rmA 0 0 0) s m args below meth c H locs 0 0 (QX below G ad args s 0 0 (Zd (some (vI out)) M0)) (F0 m 36 ls [])), W p l e (rmA 0 0 0) s m args below meth c H locs 0 0 (QX below G ad args s 0 0 (Zd (some (vI out)) M0)) (F0 m 13 ls []) := by
  intro n
  induction n with
  | zero =>
    intro x1 x4 hp0 H locs ls hE hX hl hk
    unfold f_X0_sumOfSupplies_L13 at hE
    cases hE
  | succ n ih =>
    intro x1 x4 hp0 H locs ls hE hX hl hk
    unfold f_X0_sumOfSupplies_L13 at hE
    refine e_iload X hl 3 rfl dX0_sumOfSupplies_13 ?_
    refine e_iload_n X hl 2 rfl dX0_sumOfSupplies_15 rfl ?_
    refine e_icmp_ge X (w32 x4) (w32 b3) rfl rfl hE dX0_sumOfSupplies_16 rfl (fun hE => ?_) (fun hE => ?_)
    · exact hk x1 x4 _ _ _ _ hX (lv_sub hl [0, 1, 2, 3] rfl) hE
    · refine e_aload_n X hl 1 rfl dX0_sumOfSupplies_19 rfl ?_
      refine e_iload X hl 3 rfl dX0_sumOfSupplies_20 ?_
      refine r_iald X hX.1 1 rfl (Nat.le_of_ble_eq_true rfl) hE dX0_sumOfSupplies_22 (fun v2 hE => ?_)
      refine e_istore X hl [(5, vI v2), (1, vI x1), (2, .ref (ad 1)), (3, vI b3), (4, vI x4)] dX0_sumOfSupplies_23 (by decide) rfl (fun ls hl => ?_)
      refine e_iload_n X hl 1 rfl dX0_sumOfSupplies_25 rfl ?_
      refine e_iload X hl 0 rfl dX0_sumOfSupplies_26 ?_
      refine e_iadd X dX0_sumOfSupplies_28 ?_
      refine e_top hE (fun v3 hE => ?_)
      refine e_istore_n X hl [(1, vI v3), (5, vI v2), (2, .ref (ad 1)), (3, vI b3), (4, vI x4)] dX0_sumOfSupplies_29 rfl (by decide) rfl (fun ls hl => ?_)
      refine e_iinc X hl 4 hE (fun v4 => [(4, vI v4), (1, vI v3), (5, vI v2), (2, .ref (ad 1)), (3, vI b3)]) rfl dX0_sumOfSupplies_30 (by decide) (fun _ => rfl) (fun v4 hE ls hl => ?_)
      refine e_goto X dX0_sumOfSupplies_33 rfl ?_
      exact ih v3 v4 _ _ _ _ hE hX (lv_sub hl [1, 3, 4, 0] rfl) hk
theorem wb_X0_sumOfSupplies {p : Program} {l : Launch} {e : Env} {s : State} {m : MethodId} {args : Array Value} {below : List Frame} {meth : Method} {c : Code} {G : GG} {ad : Nat → Nat} {M0 : RM} (X : CX p s m args meth c cX0_sumOfSupplies 6 RX0 (some .int) G) {N : Nat}  {out : Int} (hE : f_X0_sumOfSupplies N M0 = some out) {H : Heap} {locs : List Loc} {ls : Array Slot} {hp0 : HP} (hX : XR G ad hp0 M0 H locs) (hl : lv_has ls 6 [(0, .ref (ad 40))]) : W p l e (rmA 0 0 0) s m args below meth c H locs 0 0 (QX below G ad args s 0 0 (Zd (some (vI out)) M0)) (F0 m 0 ls []) := by
  unfold f_X0_sumOfSupplies at hE
  refine e_iconst X dX0_sumOfSupplies_0 ?_
  refine e_istore_n X hl [(1, vI 0), (0, .ref (ad 40))] dX0_sumOfSupplies_1 rfl (by decide) rfl (fun ls hl => ?_)
  refine e_aload_n X hl 1 rfl dX0_sumOfSupplies_2 rfl ?_
  refine r_getR X hX.1 ck_X0 40 1 rfl rfl (by decide) q1225 rfl dX0_sumOfSupplies_3 ?_
  refine e_astore_n X hl [(2, .ref (ad 1)), (1, vI 0), (0, .ref (ad 40))] dX0_sumOfSupplies_6 rfl (by decide) rfl (fun ls hl => ?_)
  refine e_aload_n X hl 0 rfl dX0_sumOfSupplies_7 rfl ?_
  refine r_alen X hX.1 1 rfl (fun _ => rfl) dX0_sumOfSupplies_8 ?_
  refine e_top hE (fun v1 hE => ?_)
  refine e_istore_n X hl [(3, vI v1), (2, .ref (ad 1)), (1, vI 0), (0, .ref (ad 40))] dX0_sumOfSupplies_9 rfl (by decide) rfl (fun ls hl => ?_)
  refine e_iconst X dX0_sumOfSupplies_10 ?_
  refine e_istore X hl [(4, vI 0), (3, vI v1), (2, .ref (ad 1)), (1, vI 0), (0, .ref (ad 40))] dX0_sumOfSupplies_11 (by decide) rfl (fun ls hl => ?_)
  refine wl_X0_sumOfSupplies_13 X _ 0 0 _ _ _ _ hE hX (lv_sub hl [3, 2, 1, 0] rfl) (fun v5 v6 hp0 H locs ls hX hl hE => ?_)
  refine e_iload_n X hl 0 rfl dX0_sumOfSupplies_36 rfl ?_
  cases hE
  exact x_zret X hX ⟨rfl, rfl⟩ rfl (Nat.le_of_ble_eq_true rfl) (Nat.le_of_ble_eq_true rfl) dX0_sumOfSupplies_37
theorem mx_X0_sumOfSupplies (l : Launch) (G : GG) (ad : Nat → Nat) {N : Nat} (M0 : RM)   {out : Int} (hE : f_X0_sumOfSupplies N M0 = some out) : MX l yX0_sumOfSupplies (ws_ yX0_sumOfSupplies cX0_sumOfSupplies 6 (some .int)) 0 0 0 G ad [.ref (ad 40)] M0 (Zd (some (vI out)) M0) :=
  MX.of (by decide +kernel) (Nat.le_of_ble_eq_true rfl) rfl (fun p e s m below meth c ls hp0 X hX hl => wb_X0_sumOfSupplies X hE hX hl)
def f_X0_lambda_new_6 (M0 : RM)  : Option Int :=
  some (M0 8 0)
theorem hd_X0_lambda_new_6 : yX0_lambda_new_6.cls = RX0 ∧ yX0_lambda_new_6.cls ≠ "java/lang/invoke/MethodHandle" ∧ yX0_lambda_new_6.cls ≠ "java/lang/invoke/VarHandle" ∧ (parseMethodDescriptor yX0_lambda_new_6.desc).map (fun d => d.parameters.length) = some 0 := by decide +kernel
theorem wb_X0_lambda_new_6 {p : Program} {l : Launch} {e : Env} {s : State} {m : MethodId} {args : Array Value} {below : List Frame} {meth : Method} {c : Code} {G : GG} {ad : Nat → Nat} {M0 : RM} (X : CX p s m args meth c cX0_lambda_new_6 1 RX0 (some .int) G)  {out : Int} (hE : f_X0_lambda_new_6 M0 = some out) {H : Heap} {locs : List Loc} {ls : Array Slot} {hp0 : HP} (hX : XR G ad hp0 M0 H locs) (hl : lv_has ls 1 [(0, .ref (ad 40))]) : W p l e (rmA 2 0 0) s m args below meth c H locs 0 0 (QX below G ad args s 0 0 (Zd (some (vI out)) M0)) (F0 m 0 ls []) := by
  unfold f_X0_lambda_new_6 at hE
  refine e_aload_n X hl 0 rfl dX0_lambda_new_6_0 rfl ?_
  refine r_getR X hX.1 ck_X0 40 8 rfl rfl (by decide) q1233 rfl dX0_lambda_new_6_1 ?_
  refine x_callD1 (rest := []) X hX 8 dsize_rec ck_J22 (mx_dsize l G ad M0) (cwV 0 X.ht (lw_V q795 q796 q797 q153 q798) rfl rfl rfl hd_J22_size (cxH (by decide) (by decide))) rfl hl.1 rfl (Nat.le_of_ble_eq_true rfl) dX0_lambda_new_6_4 ⟨Nat.le_of_ble_eq_true rfl, Nat.le_of_ble_eq_true rfl⟩ 0 0 rfl rfl (fun hp0 H locs hX => ?_)
  cases hE
  exact x_zret X hX ⟨rfl, rfl⟩ rfl (Nat.le_of_ble_eq_true rfl) (Nat.le_of_ble_eq_true rfl) dX0_lambda_new_6_7
theorem mx_X0_lambda_new_6 (l : Launch) (G : GG) (ad : Nat → Nat) (M0 : RM)   {out : Int} (hE : f_X0_lambda_new_6 M0 = some out) : MX l yX0_lambda_new_6 (ws_ yX0_lambda_new_6 cX0_lambda_new_6 1 (some .int)) 2 0 0 G ad [.ref (ad 40)] M0 (Zd (some (vI out)) M0) :=
  MX.of (by decide +kernel) (Nat.le_of_ble_eq_true rfl) rfl (fun p e s m below meth c ls hp0 X hX hl => wb_X0_lambda_new_6 X hE hX hl)
def f_X0_lambda_new_7 (M0 : RM)  : Option Int :=
  some (M0 40 10)
theorem hd_X0_lambda_new_7 : yX0_lambda_new_7.cls = RX0 ∧ yX0_lambda_new_7.cls ≠ "java/lang/invoke/MethodHandle" ∧ yX0_lambda_new_7.cls ≠ "java/lang/invoke/VarHandle" ∧ (parseMethodDescriptor yX0_lambda_new_7.desc).map (fun d => d.parameters.length) = some 0 := by decide +kernel
theorem wb_X0_lambda_new_7 {p : Program} {l : Launch} {e : Env} {s : State} {m : MethodId} {args : Array Value} {below : List Frame} {meth : Method} {c : Code} {G : GG} {ad : Nat → Nat} {M0 : RM} (X : CX p s m args meth c cX0_lambda_new_7 1 RX0 (some .int) G)  {out : Int} (hE : f_X0_lambda_new_7 M0 = some out) {H : Heap} {locs : List Loc} {ls : Array Slot} {hp0 : HP} (hX : XR G ad hp0 M0 H locs) (hl : lv_has ls 1 [(0, .ref (ad 40))]) : W p l e (rmA 0 0 0) s m args below meth c H locs 0 0 (QX below G ad args s 0 0 (Zd (some (vI out)) M0)) (F0 m 0 ls []) := by
  unfold f_X0_lambda_new_7 at hE
  refine e_aload_n X hl 0 rfl dX0_lambda_new_7_0 rfl ?_
  refine r_getI X hX.1 ck_X0 40 10 rfl rfl (by decide) q1235 rfl dX0_lambda_new_7_1 ?_
  cases hE
  exact x_zret X hX ⟨rfl, rfl⟩ rfl (Nat.le_of_ble_eq_true rfl) (Nat.le_of_ble_eq_true rfl) dX0_lambda_new_7_4
theorem mx_X0_lambda_new_7 (l : Launch) (G : GG) (ad : Nat → Nat) (M0 : RM)   {out : Int} (hE : f_X0_lambda_new_7 M0 = some out) : MX l yX0_lambda_new_7 (ws_ yX0_lambda_new_7 cX0_lambda_new_7 1 (some .int)) 0 0 0 G ad [.ref (ad 40)] M0 (Zd (some (vI out)) M0) :=
  MX.of (by decide +kernel) (Nat.le_of_ble_eq_true rfl) rfl (fun p e s m below meth c ls hp0 X hX hl => wb_X0_lambda_new_7 X hE hX hl)
def f_X0_changes (M : RM)  : Option RM :=
  jn (up2 M 40 5 0) fun M1 => jn (up2 M1 40 6 0) fun M2 => jn (up2 M2 40 7 0) fun M3 => some M3
theorem hd_X0_changes : yX0_changes.cls = RX0 ∧ yX0_changes.cls ≠ "java/lang/invoke/MethodHandle" ∧ yX0_changes.cls ≠ "java/lang/invoke/VarHandle" ∧ (parseMethodDescriptor yX0_changes.desc).map (fun d => d.parameters.length) = some 0 := by decide +kernel
theorem wb_X0_changes {p : Program} {l : Launch} {e : Env} {s : State} {m : MethodId} {args : Array Value} {below : List Frame} {meth : Method} {c : Code} {G : GG} {ad : Nat → Nat} (X : CX p s m args meth c cX0_changes 1 RX0 none G) {M : RM}  {out : RM} (hE : f_X0_changes M = some out) {H : Heap} {locs : List Loc} {ls : Array Slot} {hp0 : HP} (hX : XR G ad hp0 M H locs) (hl : lv_has ls 1 [(0, .ref (ad 40))]) : W p l e (rmA 0 0 0) s m args below meth c H locs 0 0 (QX below G ad args s 0 0 (Zd none out)) (F0 m 0 ls []) := by
  unfold f_X0_changes at hE
  refine e_aload_n X hl 0 rfl dX0_changes_0 rfl ?_
  refine e_iconst X dX0_changes_1 ?_
  refine x_putZ X hX ck_X0 40 5 rfl (by decide) rfl (by decide) q1230 rfl rfl hE (by decide) rfl dX0_changes_2 (fun M1 hE H locs hX => ?_)
  refine e_aload_n X hl 0 rfl dX0_changes_5 rfl ?_
  refine e_iconst X dX0_changes_6 ?_
  refine x_putZ X hX ck_X0 40 6 rfl (by decide) rfl (by decide) q1231 rfl rfl hE (by decide) rfl dX0_changes_7 (fun M2 hE H locs hX => ?_)
  refine e_aload_n X hl 0 rfl dX0_changes_10 rfl ?_
  refine e_iconst X dX0_changes_11 ?_
  refine x_putZ X hX ck_X0 40 7 rfl (by decide) rfl (by decide) q1232 rfl rfl hE (by decide) rfl dX0_changes_12 (fun M3 hE H locs hX => ?_)
  cases hE
  exact x_vret X hX ⟨rfl, rfl⟩ (Nat.le_of_ble_eq_true rfl) (Nat.le_of_ble_eq_true rfl) dX0_changes_15
theorem mx_X0_changes (l : Launch) (G : GG) (ad : Nat → Nat) (M : RM)   {out : RM} (hE : f_X0_changes M = some out) : MX l yX0_changes (ws_ yX0_changes cX0_changes 1 none) 0 0 0 G ad [.ref (ad 40)] M (Zd none out) :=
  MX.of (by decide +kernel) (Nat.le_of_ble_eq_true rfl) rfl (fun p e s m below meth c ls hp0 X hX hl => wb_X0_changes X hE hX hl)
def f_X0_isIn (M0 : RM) (a1 : Int) (a2 : Int) (a3 : Int) : Option Int :=
  if w64 a1 < w64 a2 then (some 0) else (if w64 a3 < w64 a1 then (some 0) else (some 1))
theorem hd_X0_isIn : yX0_isIn.cls ≠ "java/lang/invoke/MethodHandle" ∧ yX0_isIn.cls ≠ "java/lang/invoke/VarHandle" ∧ (parseMethodDescriptor yX0_isIn.desc).map (fun d => d.parameters.length) = some 3 := by decide +kernel
theorem wb_X0_isIn {p : Program} {l : Launch} {e : Env} {s : State} {m : MethodId} {args : Array Value} {below : List Frame} {meth : Method} {c : Code} {G : GG} {ad : Nat → Nat} {M0 : RM} (X : CX p s m args meth c cX0_isIn 6 RX0 (some .boolean) G) {a1 : Int} {a2 : Int} {a3 : Int}  {out : Int} (hE : f_X0_isIn M0 a1 a2 a3 = some out) {H : Heap} {locs : List Loc} {ls : Array Slot} {hp0 : HP} (hX : XR G ad hp0 M0 H locs) (hl : lv_has ls 6 [(0, vL a1), (2, vL a2), (4, vL a3)]) : W p l e (rmA 0 0 0) s m args below meth c H locs 0 0 (QX below G ad args s 0 0 (Zd (some (vI out)) M0)) (F0 m 0 ls []) := by
  unfold f_X0_isIn at hE
  refine e_lload_n X hl 0 rfl dX0_isIn_0 rfl ?_
  refine e_lload_n X hl 1 rfl dX0_isIn_1 rfl ?_
  refine e_lcmp_lt X (w64 a1) (w64 a2) rfl rfl hE dX0_isIn_2 dX0_isIn_3 rfl (fun hE => ?_) (fun hE => ?_)
  · refine e_iconst X dX0_isIn_17 ?_
    cases hE
    exact x_zret (x := 0) X hX ⟨rfl, rfl⟩ rfl (Nat.le_of_ble_eq_true rfl) (Nat.le_of_ble_eq_true rfl) dX0_isIn_18
  · refine e_lload_n X hl 0 rfl dX0_isIn_6 rfl ?_
    refine e_lload X hl 2 rfl dX0_isIn_7 ?_
    refine e_lcmp_gt X (w64 a1) (w64 a3) rfl rfl hE dX0_isIn_9 dX0_isIn_10 rfl (fun hE => ?_) (fun hE => ?_)
    · refine e_iconst X dX0_isIn_17 ?_
      cases hE
      exact x_zret (x := 0) X hX ⟨rfl, rfl⟩ rfl (Nat.le_of_ble_eq_true rfl) (Nat.le_of_ble_eq_true rfl) dX0_isIn_18
    · refine e_iconst X dX0_isIn_13 ?_
      refine e_goto X dX0_isIn_14 rfl ?_
      cases hE
      exact x_zret (x := 1) X hX ⟨rfl, rfl⟩ rfl (Nat.le_of_ble_eq_true rfl) (Nat.le_of_ble_eq_true rfl) dX0_isIn_18
theorem mx_X0_isIn (l : Launch) (G : GG) (ad : Nat → Nat) (M0 : RM) (a1 : Int) (a2 : Int) (a3 : Int)  {out : Int} (hE : f_X0_isIn M0 a1 a2 a3 = some out) : MX l yX0_isIn (ws_ yX0_isIn cX0_isIn 6 (some .boolean)) 0 0 0 G ad [vL a1, vL a2, vL a3] M0 (Zd (some (vI out)) M0) :=
  MX.of (by decide +kernel) (Nat.le_of_ble_eq_true rfl) rfl (fun p e s m below meth c ls hp0 X hX hl => wb_X0_isIn X hE hX hl)
def f_X0_isTown (M0 : RM) (a1 : Int) : Option Int :=
  ob (f_X0_isIn M0 (w32 a1) 0 (w32 ((M0 40 0) - 1))) fun v1 => ob (tz v1) fun v2 => some v2
theorem hd_X0_isTown : yX0_isTown.cls = RX0 ∧ yX0_isTown.cls ≠ "java/lang/invoke/MethodHandle" ∧ yX0_isTown.cls ≠ "java/lang/invoke/VarHandle" ∧ (parseMethodDescriptor yX0_isTown.desc).map (fun d => d.parameters.length) = some 1 := by decide +kernel
theorem wb_X0_isTown {p : Program} {l : Launch} {e : Env} {s : State} {m : MethodId} {args : Array Value} {below : List Frame} {meth : Method} {c : Code} {G : GG} {ad : Nat → Nat} {M0 : RM} (X : CX p s m args meth c cX0_isTown 2 RX0 (some .boolean) G) {a1 : Int}  {out : Int} (hE : f_X0_isTown M0 a1 = some out) {H : Heap} {locs : List Loc} {ls : Array Slot} {hp0 : HP} (hX : XR G ad hp0 M0 H locs) (hl : lv_has ls 2 [(0, .ref (ad 40)), (1, vI a1)]) : W p l e (rmA 1 0 0) s m args below meth c H locs 0 0 (QX below G ad args s 0 0 (Zd (some (vI out)) M0)) (F0 m 0 ls []) := by
  unfold f_X0_isTown at hE
  refine e_iload_n X hl 1 rfl dX0_isTown_0 rfl ?_
  refine e_i2l X dX0_isTown_1 ?_
  refine e_lconst X 0 dX0_isTown_2 (by decide) ?_
  refine e_aload_n X hl 0 rfl dX0_isTown_3 rfl ?_
  refine r_getI X hX.1 ck_X0 40 0 rfl rfl (by decide) q1224 rfl dX0_isTown_4 ?_
  refine e_iconst X dX0_isTown_7 ?_
  refine e_isub X dX0_isTown_8 ?_
  refine e_i2l X dX0_isTown_9 ?_
  obtain ⟨v1, h, hE⟩ := ob_some hE
  refine x_callS1 (rest := []) X hX (mx_X0_isIn l G ad M0 (w32 a1) 0 (w32 ((M0 40 0) - 1)) h) (va_cwS 3 X.ht (lw_S q1422 q1423 q127 q1424) rfl rfl rfl hd_X0_isIn (cxH (by decide) (by decide))) rfl hl.1 rfl (Nat.le_of_ble_eq_true rfl) dX0_isTown_10 ⟨Nat.le_of_ble_eq_true rfl, Nat.le_of_ble_eq_true rfl⟩ 0 0 rfl rfl (fun hp0 H locs hX => ?_)
  obtain ⟨v2, hz, hE⟩ := ob_some hE
  have hn := nb_z hz
  have hz := (tz_some hz).2
  rw [hz] at hE
  cases hE
  exact x_zret X hX ⟨rfl, rfl⟩ hn (Nat.le_of_ble_eq_true rfl) (Nat.le_of_ble_eq_true rfl) dX0_isTown_13
theorem mx_X0_isTown (l : Launch) (G : GG) (ad : Nat → Nat) (M0 : RM) (a1 : Int)  {out : Int} (hE : f_X0_isTown M0 a1 = some out) : MX l yX0_isTown (ws_ yX0_isTown cX0_isTown 2 (some .boolean)) 1 0 0 G ad [.ref (ad 40), vI a1] M0 (Zd (some (vI out)) M0) :=
  MX.of (by decide +kernel) (Nat.le_of_ble_eq_true rfl) rfl (fun p e s m below meth c ls hp0 X hX hl => wb_X0_isTown X hE hX hl)
def f_X0_areTowns (M0 : RM) (a1 : Int) (a2 : Int) : Option Int :=
  ob (f_X0_isTown M0 a1) fun v1 => if w32 v1 = 0 then (some 0) else (ob (f_X0_isTown M0 a2) fun v2 => if w32 v2 = 0 then (some 0) else (if w32 a1 = w32 a2 then (some 0) else (some 1)))
theorem hd_X0_areTowns : yX0_areTowns.cls = RX0 ∧ yX0_areTowns.cls ≠ "java/lang/invoke/MethodHandle" ∧ yX0_areTowns.cls ≠ "java/lang/invoke/VarHandle" ∧ (parseMethodDescriptor yX0_areTowns.desc).map (fun d => d.parameters.length) = some 2 := by decide +kernel
theorem wb_X0_areTowns {p : Program} {l : Launch} {e : Env} {s : State} {m : MethodId} {args : Array Value} {below : List Frame} {meth : Method} {c : Code} {G : GG} {ad : Nat → Nat} {M0 : RM} (X : CX p s m args meth c cX0_areTowns 3 RX0 (some .boolean) G) {a1 : Int} {a2 : Int}  {out : Int} (hE : f_X0_areTowns M0 a1 a2 = some out) {H : Heap} {locs : List Loc} {ls : Array Slot} {hp0 : HP} (hX : XR G ad hp0 M0 H locs) (hl : lv_has ls 3 [(0, .ref (ad 40)), (1, vI a1), (2, vI a2)]) : W p l e (rmA 2 0 0) s m args below meth c H locs 0 0 (QX below G ad args s 0 0 (Zd (some (vI out)) M0)) (F0 m 0 ls []) := by
  unfold f_X0_areTowns at hE
  refine e_aload_n X hl 0 rfl dX0_areTowns_0 rfl ?_
  refine e_iload_n X hl 1 rfl dX0_areTowns_1 rfl ?_
  obtain ⟨v1, h, hE⟩ := ob_some hE
  refine x_callV1 (rest := []) X hX 40 rfl ck_X0 (mx_X0_isTown l G ad M0 a1 h) (cwV 1 X.ht (lw_V q1488 q1490 qs20 q127 q1491) rfl rfl rfl hd_X0_isTown (cxH (by decide) (by decide))) rfl hl.1 rfl (Nat.le_of_ble_eq_true rfl) dX0_areTowns_2 ⟨Nat.le_of_ble_eq_true rfl, Nat.le_of_ble_eq_true rfl⟩ 0 0 rfl rfl (fun hp0 H locs hX => ?_)
  refine e_if_eq X (w32 v1) rfl hE dX0_areTowns_5 rfl (fun hE => ?_) (fun hE => ?_)
  · refine e_iconst X dX0_areTowns_25 ?_
    cases hE
    exact x_zret (x := 0) X hX ⟨rfl, rfl⟩ rfl (Nat.le_of_ble_eq_true rfl) (Nat.le_of_ble_eq_true rfl) dX0_areTowns_26
  · refine e_aload_n X hl 0 rfl dX0_areTowns_8 rfl ?_
    refine e_iload_n X hl 2 rfl dX0_areTowns_9 rfl ?_
    obtain ⟨v2, h, hE⟩ := ob_some hE
    refine x_callV1 (rest := []) X hX 40 rfl ck_X0 (mx_X0_isTown l G ad M0 a2 h) (cwV 1 X.ht (lw_V q1488 q1490 qs20 q127 q1491) rfl rfl rfl hd_X0_isTown (cxH (by decide) (by decide))) rfl hl.1 rfl (Nat.le_of_ble_eq_true rfl) dX0_areTowns_10 ⟨Nat.le_of_ble_eq_true rfl, Nat.le_of_ble_eq_true rfl⟩ 0 0 rfl rfl (fun hp0 H locs hX => ?_)
    refine e_if_eq X (w32 v2) rfl hE dX0_areTowns_13 rfl (fun hE => ?_) (fun hE => ?_)
    · refine e_iconst X dX0_areTowns_25 ?_
      cases hE
      exact x_zret (x := 0) X hX ⟨rfl, rfl⟩ rfl (Nat.le_of_ble_eq_true rfl) (Nat.le_of_ble_eq_true rfl) dX0_areTowns_26
    · refine e_iload_n X hl 1 rfl dX0_areTowns_16 rfl ?_
      refine e_iload_n X hl 2 rfl dX0_areTowns_17 rfl ?_
      refine e_icmp_eq X (w32 a1) (w32 a2) rfl rfl hE dX0_areTowns_18 rfl (fun hE => ?_) (fun hE => ?_)
      · refine e_iconst X dX0_areTowns_25 ?_
        cases hE
        exact x_zret (x := 0) X hX ⟨rfl, rfl⟩ rfl (Nat.le_of_ble_eq_true rfl) (Nat.le_of_ble_eq_true rfl) dX0_areTowns_26
      · refine e_iconst X dX0_areTowns_21 ?_
        refine e_goto X dX0_areTowns_22 rfl ?_
        cases hE
        exact x_zret (x := 1) X hX ⟨rfl, rfl⟩ rfl (Nat.le_of_ble_eq_true rfl) (Nat.le_of_ble_eq_true rfl) dX0_areTowns_26
theorem mx_X0_areTowns (l : Launch) (G : GG) (ad : Nat → Nat) (M0 : RM) (a1 : Int) (a2 : Int)  {out : Int} (hE : f_X0_areTowns M0 a1 a2 = some out) : MX l yX0_areTowns (ws_ yX0_areTowns cX0_areTowns 3 (some .boolean)) 2 0 0 G ad [.ref (ad 40), vI a1, vI a2] M0 (Zd (some (vI out)) M0) :=
  MX.of (by decide +kernel) (Nat.le_of_ble_eq_true rfl) rfl (fun p e s m below meth c ls hp0 X hX hl => wb_X0_areTowns X hE hX hl)
def f_X0_isRoad (M0 : RM) (a1 : Int) : Option Int :=
  ob (f_X0_isIn M0 (w32 a1) 0 (w32 ((M0 2 1) - 1))) fun v1 => ob (tz v1) fun v2 => some v2
theorem hd_X0_isRoad : yX0_isRoad.cls = RX0 ∧ yX0_isRoad.cls ≠ "java/lang/invoke/MethodHandle" ∧ yX0_isRoad.cls ≠ "java/lang/invoke/VarHandle" ∧ (parseMethodDescriptor yX0_isRoad.desc).map (fun d => d.parameters.length) = some 1 := by decide +kernel
theorem wb_X0_isRoad {p : Program} {l : Launch} {e : Env} {s : State} {m : MethodId} {args : Array Value} {below : List Frame} {meth : Method} {c : Code} {G : GG} {ad : Nat → Nat} {M0 : RM} (X : CX p s m args meth c cX0_isRoad 2 RX0 (some .boolean) G) {a1 : Int}  {out : Int} (hE : f_X0_isRoad M0 a1 = some out) {H : Heap} {locs : List Loc} {ls : Array Slot} {hp0 : HP} (hX : XR G ad hp0 M0 H locs) (hl : lv_has ls 2 [(0, .ref (ad 40)), (1, vI a1)]) : W p l e (rmA 1 0 0) s m args below meth c H locs 0 0 (QX below G ad args s 0 0 (Zd (some (vI out)) M0)) (F0 m 0 ls []) := by
  unfold f_X0_isRoad at hE
  refine e_iload_n X hl 1 rfl dX0_isRoad_0 rfl ?_
  refine e_i2l X dX0_isRoad_1 ?_
  refine e_lconst X 0 dX0_isRoad_2 (by decide) ?_
  refine e_aload_n X hl 0 rfl dX0_isRoad_3 rfl ?_
  refine r_getR X hX.1 ck_X0 40 2 rfl rfl (by decide) q1226 rfl dX0_isRoad_4 ?_
  refine x_callD1 (rest := [vL 0, vL (w32 a1)]) X hX 2 (size_rec (Or.inl rfl)) ck_J3 (mx_size l G ad M0 2 (Or.inl rfl)) (cwV 0 X.ht (lw_V q785 q786 q787 q131 q788) rfl rfl rfl hd_J3_size (cxH (by decide) (by decide))) rfl hl.1 rfl (Nat.le_of_ble_eq_true rfl) dX0_isRoad_7 ⟨Nat.le_of_ble_eq_true rfl, Nat.le_of_ble_eq_true rfl⟩ 0 0 rfl rfl (fun hp0 H locs hX => ?_)
  refine e_iconst X dX0_isRoad_10 ?_
  refine e_isub X dX0_isRoad_11 ?_
  refine e_i2l X dX0_isRoad_12 ?_
  obtain ⟨v1, h, hE⟩ := ob_some hE
  refine x_callS1 (rest := []) X hX (mx_X0_isIn l G ad M0 (w32 a1) 0 (w32 ((M0 2 1) - 1)) h) (va_cwS 3 X.ht (lw_S q1422 q1423 q127 q1424) rfl rfl rfl hd_X0_isIn (cxH (by decide) (by decide))) rfl hl.1 rfl (Nat.le_of_ble_eq_true rfl) dX0_isRoad_13 ⟨Nat.le_of_ble_eq_true rfl, Nat.le_of_ble_eq_true rfl⟩ 0 0 rfl rfl (fun hp0 H locs hX => ?_)
  obtain ⟨v2, hz, hE⟩ := ob_some hE
  have hn := nb_z hz
  have hz := (tz_some hz).2
  rw [hz] at hE
  cases hE
  exact x_zret X hX ⟨rfl, rfl⟩ hn (Nat.le_of_ble_eq_true rfl) (Nat.le_of_ble_eq_true rfl) dX0_isRoad_16
theorem mx_X0_isRoad (l : Launch) (G : GG) (ad : Nat → Nat) (M0 : RM) (a1 : Int)  {out : Int} (hE : f_X0_isRoad M0 a1 = some out) : MX l yX0_isRoad (ws_ yX0_isRoad cX0_isRoad 2 (some .boolean)) 1 0 0 G ad [.ref (ad 40), vI a1] M0 (Zd (some (vI out)) M0) :=
  MX.of (by decide +kernel) (Nat.le_of_ble_eq_true rfl) rfl (fun p e s m below meth c ls hp0 X hX hl => wb_X0_isRoad X hE hX hl)
def f_X0_feed (M : RM) (a1 : Int) : Option (Int × RM) :=
  ob (f_X0_isIn M (w32 a1) 1 127) fun v1 => if ¬ w32 v1 = 0 then (if ¬ w32 (M 40 10) = 120 then (jn (up2 M 40 10 ((M 40 10) + 1)) fun M2 => ob (sB 120 M2 9 (M 40 10) (i2b a1)) fun M3 => some (M3 40 10, M3)) else (some ((-4), M))) else (some ((-2), M))
theorem hd_X0_feed : yX0_feed.cls = RX0 ∧ yX0_feed.cls ≠ "java/lang/invoke/MethodHandle" ∧ yX0_feed.cls ≠ "java/lang/invoke/VarHandle" ∧ (parseMethodDescriptor yX0_feed.desc).map (fun d => d.parameters.length) = some 1 := by decide +kernel
theorem wb_X0_feed {p : Program} {l : Launch} {e : Env} {s : State} {m : MethodId} {args : Array Value} {below : List Frame} {meth : Method} {c : Code} {G : GG} {ad : Nat → Nat} (X : CX p s m args meth c cX0_feed 2 RX0 (some .int) G) {M : RM} {a1 : Int}  {out : (Int × RM)} (hE : f_X0_feed M a1 = some out) {H : Heap} {locs : List Loc} {ls : Array Slot} {hp0 : HP} (hX : XR G ad hp0 M H locs) (hl : lv_has ls 2 [(0, .ref (ad 40)), (1, vI a1)]) : W p l e (rmA 1 0 0) s m args below meth c H locs 0 0 (QX below G ad args s 0 0 (Zd (some (vI out.1)) out.2)) (F0 m 0 ls []) := by
  unfold f_X0_feed at hE
  refine e_iload_n X hl 1 rfl dX0_feed_0 rfl ?_
  refine e_i2l X dX0_feed_1 ?_
  refine e_lconst X 1 dX0_feed_2 (by decide) ?_
  refine e_ldc2 X 127 q1948 (by decide) dX0_feed_3 ?_
  obtain ⟨v1, h, hE⟩ := ob_some hE
  refine x_callS1 (rest := []) X hX (mx_X0_isIn l G ad M (w32 a1) 1 127 h) (va_cwS 3 X.ht (lw_S q1422 q1423 q127 q1424) rfl rfl rfl hd_X0_isIn (cxH (by decide) (by decide))) rfl hl.1 rfl (Nat.le_of_ble_eq_true rfl) dX0_feed_6 ⟨Nat.le_of_ble_eq_true rfl, Nat.le_of_ble_eq_true rfl⟩ 0 0 rfl rfl (fun hp0 H locs hX => ?_)
  refine e_if_ne X (w32 v1) rfl hE dX0_feed_9 rfl (fun hE => ?_) (fun hE => ?_)
  · refine e_aload_n X hl 0 rfl dX0_feed_15 rfl ?_
    refine r_getI X hX.1 ck_X0 40 10 rfl rfl (by decide) q1235 rfl dX0_feed_16 ?_
    refine e_bipush X dX0_feed_19 (by decide) ?_
    refine e_icmp_ne X (w32 (M 40 10)) 120 rfl (by decide) hE dX0_feed_21 rfl (fun hE => ?_) (fun hE => ?_)
    · refine e_aload_n X hl 0 rfl dX0_feed_27 rfl ?_
      refine r_getR X hX.1 ck_X0 40 9 rfl rfl (by decide) q1234 rfl dX0_feed_28 ?_
      refine e_aload_n X hl 0 rfl dX0_feed_31 rfl ?_
      refine e_dup X dX0_feed_32 rfl ?_
      refine r_getI X hX.1 ck_X0 40 10 rfl rfl (by decide) q1235 rfl dX0_feed_33 ?_
      refine e_dup_x1 X dX0_feed_36 rfl rfl ?_
      refine e_iconst X dX0_feed_37 ?_
      refine e_iadd X dX0_feed_38 ?_
      refine x_putI X hX ck_X0 40 10 rfl (by decide) rfl (by decide) q1235 rfl rfl hE rfl dX0_feed_39 (fun M2 hE H locs hX => ?_)
      refine e_iload_n X hl 1 rfl dX0_feed_42 rfl ?_
      refine e_i2b X dX0_feed_43 ?_
      refine x_bast X hX 9 rfl (by decide) (Nat.le_of_ble_eq_true rfl) hE dX0_feed_44 (fun M3 hE H locs hX => ?_)
      refine e_aload_n X hl 0 rfl dX0_feed_45 rfl ?_
      refine r_getI X hX.1 ck_X0 40 10 rfl rfl (by decide) q1235 rfl dX0_feed_46 ?_
      cases hE
      exact x_zret X hX ⟨rfl, rfl⟩ rfl (Nat.le_of_ble_eq_true rfl) (Nat.le_of_ble_eq_true rfl) dX0_feed_49
    · refine e_bipush X dX0_feed_24 (by decide) ?_
      cases hE
      exact x_zret (x := (-4)) X hX ⟨rfl, rfl⟩ rfl (Nat.le_of_ble_eq_true rfl) (Nat.le_of_ble_eq_true rfl) dX0_feed_26
  · refine e_bipush X dX0_feed_12 (by decide) ?_
    cases hE
    exact x_zret (x := (-2)) X hX ⟨rfl, rfl⟩ rfl (Nat.le_of_ble_eq_true rfl) (Nat.le_of_ble_eq_true rfl) dX0_feed_14
theorem mx_X0_feed (l : Launch) (G : GG) (ad : Nat → Nat) (M : RM) (a1 : Int)  {out : (Int × RM)} (hE : f_X0_feed M a1 = some out) : MX l yX0_feed (ws_ yX0_feed cX0_feed 2 (some .int)) 1 0 0 G ad [.ref (ad 40), vI a1] M (Zd (some (vI out.1)) out.2) :=
  MX.of (by decide +kernel) (Nat.le_of_ble_eq_true rfl) rfl (fun p e s m below meth c ls hp0 X hX hl => wb_X0_feed X hE hX hl)
def f_X0_clear (M : RM)  : Option (Int × RM) :=
  jn (M 40 10) fun v1 => jn (up2 M 40 10 0) fun M2 => some (v1, M2)
theorem hd_X0_clear : yX0_clear.cls = RX0 ∧ yX0_clear.cls ≠ "java/lang/invoke/MethodHandle" ∧ yX0_clear.cls ≠ "java/lang/invoke/VarHandle" ∧ (parseMethodDescriptor yX0_clear.desc).map (fun d => d.parameters.length) = some 0 := by decide +kernel
theorem wb_X0_clear {p : Program} {l : Launch} {e : Env} {s : State} {m : MethodId} {args : Array Value} {below : List Frame} {meth : Method} {c : Code} {G : GG} {ad : Nat → Nat} (X : CX p s m args meth c cX0_clear 2 RX0 (some .int) G) {M : RM}  {out : (Int × RM)} (hE : f_X0_clear M = some out) {H : Heap} {locs : List Loc} {ls : Array Slot} {hp0 : HP} (hX : XR G ad hp0 M H locs) (hl : lv_has ls 2 [(0, .ref (ad 40))]) : W p l e (rmA 0 0 0) s m args below meth c H locs 0 0 (QX below G ad args s 0 0 (Zd (some (vI out.1)) out.2)) (F0 m 0 ls []) := by
  unfold f_X0_clear at hE
  refine e_aload_n X hl 0 rfl dX0_clear_0 rfl ?_
  refine r_getI X hX.1 ck_X0 40 10 rfl rfl (by decide) q1235 rfl dX0_clear_1 ?_
  refine e_top hE (fun v1 hE => ?_)
  refine e_istore_n X hl [(1, vI v1), (0, .ref (ad 40))] dX0_clear_4 rfl (by decide) rfl (fun ls hl => ?_)
  refine e_aload_n X hl 1 rfl dX0_clear_5 rfl ?_
  refine e_iconst X dX0_clear_6 ?_
  refine x_putI X hX ck_X0 40 10 rfl (by decide) rfl (by decide) q1235 rfl rfl hE rfl dX0_clear_7 (fun M2 hE H locs hX => ?_)
  refine e_iload_n X hl 0 rfl dX0_clear_10 rfl ?_
  cases hE
  exact x_zret X hX ⟨rfl, rfl⟩ rfl (Nat.le_of_ble_eq_true rfl) (Nat.le_of_ble_eq_true rfl) dX0_clear_11
theorem mx_X0_clear (l : Launch) (G : GG) (ad : Nat → Nat) (M : RM)   {out : (Int × RM)} (hE : f_X0_clear M = some out) : MX l yX0_clear (ws_ yX0_clear cX0_clear 2 (some .int)) 0 0 0 G ad [.ref (ad 40)] M (Zd (some (vI out.1)) out.2) :=
  MX.of (by decide +kernel) (Nat.le_of_ble_eq_true rfl) rfl (fun p e s m below meth c ls hp0 X hX hl => wb_X0_clear X hE hX hl)
def f_X0_peek (M0 : RM)  : Option Int :=
  if w32 (M0 40 10) ≤ w32 (M0 40 11) then (some (-1)) else (ob (gA 120 M0 9 (M0 40 11)) fun v1 => some v1)
theorem hd_X0_peek : yX0_peek.cls = RX0 ∧ yX0_peek.cls ≠ "java/lang/invoke/MethodHandle" ∧ yX0_peek.cls ≠ "java/lang/invoke/VarHandle" ∧ (parseMethodDescriptor yX0_peek.desc).map (fun d => d.parameters.length) = some 0 := by decide +kernel
theorem wb_X0_peek {p : Program} {l : Launch} {e : Env} {s : State} {m : MethodId} {args : Array Value} {below : List Frame} {meth : Method} {c : Code} {G : GG} {ad : Nat → Nat} {M0 : RM} (X : CX p s m args meth c cX0_peek 1 RX0 (some .int) G)  {out : Int} (hE : f_X0_peek M0 = some out) {H : Heap} {locs : List Loc} {ls : Array Slot} {hp0 : HP} (hX : XR G ad hp0 M0 H locs) (hl : lv_has ls 1 [(0, .ref (ad 40))]) : W p l e (rmA 0 0 0) s m args below meth c H locs 0 0 (QX below G ad args s 0 0 (Zd (some (vI out)) M0)) (F0 m 0 ls []) := by
  unfold f_X0_peek at hE
  refine e_aload_n X hl 0 rfl dX0_peek_0 rfl ?_
  refine r_getI X hX.1 ck_X0 40 11 rfl rfl (by decide) q1236 rfl dX0_peek_1 ?_
  refine e_aload_n X hl 0 rfl dX0_peek_4 rfl ?_
  refine r_getI X hX.1 ck_X0 40 10 rfl rfl (by decide) q1235 rfl dX0_peek_5 ?_
  refine e_icmp_ge X (w32 (M0 40 11)) (w32 (M0 40 10)) rfl rfl hE dX0_peek_8 rfl (fun hE => ?_) (fun hE => ?_)
  · refine e_iconst X dX0_peek_23 ?_
    cases hE
    exact x_zret (x := (-1)) X hX ⟨rfl, rfl⟩ rfl (Nat.le_of_ble_eq_true rfl) (Nat.le_of_ble_eq_true rfl) dX0_peek_24
  · refine e_aload_n X hl 0 rfl dX0_peek_11 rfl ?_
    refine r_getR X hX.1 ck_X0 40 9 rfl rfl (by decide) q1234 rfl dX0_peek_12 ?_
    refine e_aload_n X hl 0 rfl dX0_peek_15 rfl ?_
    refine r_getI X hX.1 ck_X0 40 11 rfl rfl (by decide) q1236 rfl dX0_peek_16 ?_
    refine r_bald X hX.1 9 rfl (Nat.le_of_ble_eq_true rfl) hE dX0_peek_19 (fun v1 hE => ?_)
    refine e_goto X dX0_peek_20 rfl ?_
    cases hE
    exact x_zret X hX ⟨rfl, rfl⟩ rfl (Nat.le_of_ble_eq_true rfl) (Nat.le_of_ble_eq_true rfl) dX0_peek_24
theorem mx_X0_peek (l : Launch) (G : GG) (ad : Nat → Nat) (M0 : RM)   {out : Int} (hE : f_X0_peek M0 = some out) : MX l yX0_peek (ws_ yX0_peek cX0_peek 1 (some .int)) 0 0 0 G ad [.ref (ad 40)] M0 (Zd (some (vI out)) M0) :=
  MX.of (by decide +kernel) (Nat.le_of_ble_eq_true rfl) rfl (fun p e s m below meth c ls hp0 X hX hl => wb_X0_peek X hE hX hl)
def f_X0_skips (M : RM) (a1 : Int) : Option (Int × RM) :=
  ob (f_X0_peek M) fun v1 => if w32 v1 = w32 a1 then (jn (up2 M 40 11 ((M 40 11) + 1)) fun M2 => some (1, M2)) else (some (0, M))
theorem hd_X0_skips : yX0_skips.cls = RX0 ∧ yX0_skips.cls ≠ "java/lang/invoke/MethodHandle" ∧ yX0_skips.cls ≠ "java/lang/invoke/VarHandle" ∧ (parseMethodDescriptor yX0_skips.desc).map (fun d => d.parameters.length) = some 1 := by decide +kernel
theorem wb_X0_skips {p : Program} {l : Launch} {e : Env} {s : State} {m : MethodId} {args : Array Value} {below : List Frame} {meth : Method} {c : Code} {G : GG} {ad : Nat → Nat} (X : CX p s m args meth c cX0_skips 2 RX0 (some .boolean) G) {M : RM} {a1 : Int}  {out : (Int × RM)} (hE : f_X0_skips M a1 = some out) {H : Heap} {locs : List Loc} {ls : Array Slot} {hp0 : HP} (hX : XR G ad hp0 M H locs) (hl : lv_has ls 2 [(0, .ref (ad 40)), (1, vI a1)]) : W p l e (rmA 1 0 0) s m args below meth c H locs 0 0 (QX below G ad args s 0 0 (Zd (some (vI out.1)) out.2)) (F0 m 0 ls []) := by
  unfold f_X0_skips at hE
  refine e_aload_n X hl 0 rfl dX0_skips_0 rfl ?_
  obtain ⟨v1, h, hE⟩ := ob_some hE
  refine x_callV1 (rest := []) X hX 40 rfl ck_X0 (mx_X0_peek l G ad M h) (cwV 0 X.ht (lw_V q2019 q2021 qs32 q127 q2022) rfl rfl rfl hd_X0_peek (cxH (by decide) (by decide))) rfl hl.1 rfl (Nat.le_of_ble_eq_true rfl) dX0_skips_1 ⟨Nat.le_of_ble_eq_true rfl, Nat.le_of_ble_eq_true rfl⟩ 0 0 rfl rfl (fun hp0 H locs hX => ?_)
  refine e_iload_n X hl 1 rfl dX0_skips_4 rfl ?_
  refine e_icmp_eq X (w32 v1) (w32 a1) rfl rfl hE dX0_skips_5 rfl (fun hE => ?_) (fun hE => ?_)
  · refine e_aload_n X hl 0 rfl dX0_skips_10 rfl ?_
    refine e_dup X dX0_skips_11 rfl ?_
    refine r_getI X hX.1 ck_X0 40 11 rfl rfl (by decide) q1236 rfl dX0_skips_12 ?_
    refine e_iconst X dX0_skips_15 ?_
    refine e_iadd X dX0_skips_16 ?_
    refine x_putI X hX ck_X0 40 11 rfl (by decide) rfl (by decide) q1236 rfl rfl hE rfl dX0_skips_17 (fun M2 hE H locs hX => ?_)
    refine e_iconst X dX0_skips_20 ?_
    cases hE
    exact x_zret (x := 1) X hX ⟨rfl, rfl⟩ rfl (Nat.le_of_ble_eq_true rfl) (Nat.le_of_ble_eq_true rfl) dX0_skips_21
  · refine e_iconst X dX0_skips_8 ?_
    cases hE
    exact x_zret (x := 0) X hX ⟨rfl, rfl⟩ rfl (Nat.le_of_ble_eq_true rfl) (Nat.le_of_ble_eq_true rfl) dX0_skips_9
theorem mx_X0_skips (l : Launch) (G : GG) (ad : Nat → Nat) (M : RM) (a1 : Int)  {out : (Int × RM)} (hE : f_X0_skips M a1 = some out) : MX l yX0_skips (ws_ yX0_skips cX0_skips 2 (some .boolean)) 1 0 0 G ad [.ref (ad 40), vI a1] M (Zd (some (vI out.1)) out.2) :=
  MX.of (by decide +kernel) (Nat.le_of_ble_eq_true rfl) rfl (fun p e s m below meth c ls hp0 X hX hl => wb_X0_skips X hE hX hl)
def f_X0_isList (M0 : RM) (a1 : Int) : Option Int :=
  ob (f_X0_isIn M0 (w32 a1) 0 3) fun v1 => ob (tz v1) fun v2 => some v2
theorem hd_X0_isList : yX0_isList.cls ≠ "java/lang/invoke/MethodHandle" ∧ yX0_isList.cls ≠ "java/lang/invoke/VarHandle" ∧ (parseMethodDescriptor yX0_isList.desc).map (fun d => d.parameters.length) = some 1 := by decide +kernel
theorem wb_X0_isList {p : Program} {l : Launch} {e : Env} {s : State} {m : MethodId} {args : Array Value} {below : List Frame} {meth : Method} {c : Code} {G : GG} {ad : Nat → Nat} {M0 : RM} (X : CX p s m args meth c cX0_isList 1 RX0 (some .boolean) G) {a1 : Int}  {out : Int} (hE : f_X0_isList M0 a1 = some out) {H : Heap} {locs : List Loc} {ls : Array Slot} {hp0 : HP} (hX : XR G ad hp0 M0 H locs) (hl : lv_has ls 1 [(0, vI a1)]) : W p l e (rmA 1 0 0) s m args below meth c H locs 0 0 (QX below G ad args s 0 0 (Zd (some (vI out)) M0)) (F0 m 0 ls []) := by
  unfold f_X0_isList at hE
  refine e_iload_n X hl 0 rfl dX0_isList_0 rfl ?_
  refine e_i2l X dX0_isList_1 ?_
  refine e_lconst X 0 dX0_isList_2 (by decide) ?_
  refine e_ldc2 X 3 q2822 (by decide) dX0_isList_3 ?_
  obtain ⟨v1, h, hE⟩ := ob_some hE
  refine x_callS1 (rest := []) X hX (mx_X0_isIn l G ad M0 (w32 a1) 0 3 h) (va_cwS 3 X.ht (lw_S q1422 q1423 q127 q1424) rfl rfl rfl hd_X0_isIn (cxH (by decide) (by decide))) rfl hl.1 rfl (Nat.le_of_ble_eq_true rfl) dX0_isList_6 ⟨Nat.le_of_ble_eq_true rfl, Nat.le_of_ble_eq_true rfl⟩ 0 0 rfl rfl (fun hp0 H locs hX => ?_)
  obtain ⟨v2, hz, hE⟩ := ob_some hE
  have hn := nb_z hz
  have hz := (tz_some hz).2
  rw [hz] at hE
  cases hE
  exact x_zret X hX ⟨rfl, rfl⟩ hn (Nat.le_of_ble_eq_true rfl) (Nat.le_of_ble_eq_true rfl) dX0_isList_9
theorem mx_X0_isList (l : Launch) (G : GG) (ad : Nat → Nat) (M0 : RM) (a1 : Int)  {out : Int} (hE : f_X0_isList M0 a1 = some out) : MX l yX0_isList (ws_ yX0_isList cX0_isList 1 (some .boolean)) 1 0 0 G ad [vI a1] M0 (Zd (some (vI out)) M0) :=
  MX.of (by decide +kernel) (Nat.le_of_ble_eq_true rfl) rfl (fun p e s m below meth c ls hp0 X hX hl => wb_X0_isList X hE hX hl)
def f_X0_isRing_L83 (N : Nat) (rec : RM → Int → Int → Int → Option (Int × RM)) (b1 : Int) (b2 : Int) (b3 : Int) (b5 : Int) (k : RM → Int → Option (Int × RM)) : Nat → RM → Int → Option (Int × RM)
  | 0, _, _ => none
  | n + 1, M, x6 =>
    if w32 (M 40 0) ≤ w32 x6 then (k M x6) else (ob (gA 64 M 20 ((8 * b5) + x6)) fun v4 => if w32 v4 < 0 then (jn (x6 + 1) fun v5 => f_X0_isRing_L83 N rec b1 b2 b3 b5 k n M v5) else (ob (f_J6_get 22 M x6) fun v6 => if ¬ w32 v6 = 0 then (jn (x6 + 1) fun v7 => f_X0_isRing_L83 N rec b1 b2 b3 b5 k n M v7) else (ob (sA 8 M 21 b2 x6) fun M8 => ob (f_J6_set 22 M8 x6) fun M9 => jn (mg (dB 22) M9 M8) fun M10 => ob (f_X1_stepCost 300 M10 v4) fun v11 => ob2 (rec M10 b1 (b2 + 1) (b3 + v11)) fun v12 M13 => ob (f_J6_clear_2 22 N M13 x6) fun M14 => jn (mg (dB 22) M14 M13) fun M15 => if w32 v12 = 0 then (jn (x6 + 1) fun v16 => f_X0_isRing_L83 N rec b1 b2 b3 b5 k n M15 v16) else (some (1, M15)))))
def fb_X0_isRing (N : Nat) (rec : RM → Int → Int → Int → Option (Int × RM)) (M : RM) (a1 : Int) (a2 : Int) (a3 : Int) : Option (Int × RM) :=
  ob (gA 8 M 21 (a2 - 1)) fun v1 => if ¬ w32 a2 = w32 a1 then (ob (gA 8 M 21 0) fun v2 => jn (v2 + 1) fun v3 => f_X0_isRing_L83 N rec a1 a2 a3 v1 (fun (M17 : RM) (v18 : Int) => some (0, M17)) N M v3) else (ob (gA 8 M 21 0) fun v19 => ob (gA 64 M 20 ((8 * v1) + v19)) fun v20 => jn (fun (v22 : Int) => jn (up2 M 40 24 v22) fun M23 => if 0 ≤ w64 (M23 40 24) then (some (0, M23)) else (some (1, M23))) fun kj21 => if 0 ≤ w32 v20 then (ob (f_X1_stepCost 300 M v20) fun v24 => kj21 (a3 + v24)) else (kj21 0))
def f_X0_isRing (N : Nat) : Nat → RM → Int → Int → Int → Option (Int × RM)
  | 0, _, _, _, _ => none
  | n + 1, M, a1, a2, a3 => fb_X0_isRing N (f_X0_isRing N n) M a1 a2 a3
theorem hd_X0_isRing : yX0_isRing.cls = RX0 ∧ yX0_isRing.cls ≠ "java/lang/invoke/MethodHandle" ∧ yX0_isRing.cls ≠ "java/lang/invoke/VarHandle" ∧ (parseMethodDescriptor yX0_isRing.desc).map (fun d => d.parameters.length) = some 3 := by decide +kernel
theorem wl_X0_isRing_83 {p : Program} {l : Launch} {e : Env} {s : State} {m : MethodId} {args : Array Value} {below : List Frame} {meth : Method} {c : Code} {G : GG} {ad : Nat → Nat} (X : CX p s m args meth c cX0_isRing 9 RX0 (some .boolean) G) {dR : Nat} (hdR : 3 ≤ dR) {rec : RM → Int → Int → Int → Option (Int × RM)} (hrec : ∀ (M : RM) (a1 : Int) (a2 : Int) (a3 : Int) {out : (Int × RM)} (_ : rec M a1 a2 a3 = some out), MX l yX0_isRing (ws_ yX0_isRing cX0_isRing 9 (some .boolean)) dR 0 0 G ad [.ref (ad 40), vI a1, vI a2, vL a3] M (Zd (some (vI out.1)) out.2)) {N : Nat} {b1 : Int} {b2 : Int} {b3 : Int} {b5 : Int} {k : RM → Int → Option (Int × RM)} {out : (Int × RM)} : ∀ (n : Nat) (M : RM) (x6 : Int) (hp0 : HP) (H : Heap) (locs : List Loc) (ls : Array Slot) (hE : f_X0_isRing_L83 N rec b1 b2 b3 b5 k n M x6 = some out) (hX : XR G ad hp0 M H locs) (hl : lv_has ls 9 [(0, .ref (ad 40)), (1, vI b1), (2, vI b2), (3, vL b3), (5, vI b5), (6, vI x6)]) (hk : ∀ (M : RM) (x6 : Int) (hp0 : HP) (H : Heap) (locs : List Loc) (ls : Array Slot), XR G ad hp0 M H locs → lv_has ls 9 [(0, .ref (ad 40)), (1, vI b1), (2, vI b2), (3, vL b3), (5, vI b5), (6, vI x6)] → k M x6 = some out → W p l e (rmA (dR + 1) 0 0) s m args below meth c H locs 0 0 (QX below G ad args s 0 0 (Zd (some (vI out.1)) out.2)) (F0 m 184 ls [])), W p l e (rmA (dR + 1) 0 0) s m args below meth c H locs 0 0 (QX below G ad args s 0 0 (Zd (some (vI out.1)) out.2)) (F0 m 83 ls []) := by
  intro n
  induction n with
  | zero =>
    intro M x6 hp0 H locs ls hE hX hl hk
    unfold f_X0_isRing_L83 at hE
    cases hE
  | succ n ih =>
    intro M x6 hp0 H locs ls hE hX hl hk
    unfold f_X0_isRing_L83 at hE
    refine e_iload X hl 5 rfl dX0_isRing_83 ?_
    refine e_aload_n X hl 0 rfl dX0_isRing_85 rfl ?_
    refine r_getI X hX.1 ck_X0 40 0 rfl rfl (by decide) q1224 rfl dX0_isRing_86 ?_
    refine e_icmp_ge X (w32 x6) (w32 (M 40 0)) rfl rfl hE dX0_isRing_89 rfl (fun hE => ?_) (fun hE => ?_)
    · exact hk M x6 _ _ _ _ hX (lv_sub hl [0, 1, 2, 3, 4, 5] rfl) hE
    · refine e_aload_n X hl 0 rfl dX0_isRing_92 rfl ?_
      refine r_getR X hX.1 ck_X0 40 20 rfl rfl (by decide) q1245 rfl dX0_isRing_93 ?_
      refine e_bipush X dX0_isRing_96 (by decide) ?_
      refine e_iload X hl 4 rfl dX0_isRing_98 ?_
      refine e_imul X dX0_isRing_100 ?_
      refine e_iload X hl 5 rfl dX0_isRing_101 ?_
      refine e_iadd X dX0_isRing_103 ?_
      refine r_iald X hX.1 20 rfl (Nat.le_of_ble_eq_true rfl) hE dX0_isRing_104 (fun v4 hE => ?_)
      refine e_istore X hl [(7, vI v4), (0, .ref (ad 40)), (1, vI b1), (2, vI b2), (3, vL b3), (5, vI b5), (6, vI x6)] dX0_isRing_105 (by decide) rfl (fun ls hl => ?_)
      refine e_iload X hl 0 rfl dX0_isRing_107 ?_
      refine e_if_lt X (w32 v4) rfl hE dX0_isRing_109 rfl (fun hE => ?_) (fun hE => ?_)
      · refine e_iinc X hl 6 hE (fun v5 => [(6, vI v5), (7, vI v4), (0, .ref (ad 40)), (1, vI b1), (2, vI b2), (3, vL b3), (5, vI b5)]) rfl dX0_isRing_178 (by decide) (fun _ => rfl) (fun v5 hE ls hl => ?_)
        refine e_goto X dX0_isRing_181 rfl ?_
        exact ih M v5 _ _ _ _ hE hX (lv_sub hl [2, 3, 4, 5, 6, 0] rfl) hk
      · refine e_aload_n X hl 1 rfl dX0_isRing_112 rfl ?_
        refine r_getR X hX.1 ck_X0 40 22 rfl rfl (by decide) q1247 rfl dX0_isRing_113 ?_
        refine e_iload X hl 6 rfl dX0_isRing_116 ?_
        obtain ⟨v6, h, hE⟩ := ob_some hE
        refine x_subV1r (rest := []) X hX (subB bs22) rfl 22 bs22.1 ck_J6 (fun hp => met_J6_get l G ad hp 22 (bsB 22) M x6 h) (cwV 1 X.ht (lw_V q2312 q1635 q1636 q135 q1637) rfl rfl rfl hd_J6_get (cxH (by omega) (by decide))) rfl hl.1 rfl (Nat.le_of_ble_eq_true rfl) dX0_isRing_118 ⟨Nat.le_of_ble_eq_true rfl, Nat.le_of_ble_eq_true rfl⟩ (fun H locs hX => ?_)
        refine e_if_ne X (w32 v6) rfl hE dX0_isRing_121 rfl (fun hE => ?_) (fun hE => ?_)
        · refine e_iinc X hl 6 hE (fun v7 => [(6, vI v7), (7, vI v4), (0, .ref (ad 40)), (1, vI b1), (2, vI b2), (3, vL b3), (5, vI b5)]) rfl dX0_isRing_178 (by decide) (fun _ => rfl) (fun v7 hE ls hl => ?_)
          refine e_goto X dX0_isRing_181 rfl ?_
          exact ih M v7 _ _ _ _ hE hX (lv_sub hl [2, 3, 4, 5, 6, 0] rfl) hk
        · refine e_aload_n X hl 1 rfl dX0_isRing_124 rfl ?_
          refine r_getR X hX.1 ck_X0 40 21 rfl rfl (by decide) q1246 rfl dX0_isRing_125 ?_
          refine e_iload_n X hl 3 rfl dX0_isRing_128 rfl ?_
          refine e_iload X hl 6 rfl dX0_isRing_129 ?_
          refine x_iast X hX 21 rfl (by decide) (Nat.le_of_ble_eq_true rfl) hE dX0_isRing_131 (fun M8 hE H locs hX => ?_)
          refine e_aload_n X hl 1 rfl dX0_isRing_132 rfl ?_
          refine r_getR X hX.1 ck_X0 40 22 rfl rfl (by decide) q1247 rfl dX0_isRing_133 ?_
          refine e_iload X hl 6 rfl dX0_isRing_136 ?_
          obtain ⟨M9, h, hE⟩ := ob_some hE
          refine x_subV0 (rest := []) X hX (subB bs22) rfl 22 bs22.1 ck_J6 (fun hp => met_J6_set l G ad hp 22 (bsB 22) M8 x6 h) (cwV 1 X.ht (lw_V q2832 q2287 q2288 q135 q2289) rfl rfl rfl hd_J6_set (cxH (by omega) (by decide))) rfl hl.1 rfl (Nat.le_of_ble_eq_true rfl) dX0_isRing_138 ⟨Nat.le_of_ble_eq_true rfl, Nat.le_of_ble_eq_true rfl⟩ (fun H locs hX => ?_)
          obtain ⟨M10, hM3, hE⟩ := jn_ex hE
          rw [← hM3] at hX
          refine e_aload_n X hl 1 rfl dX0_isRing_141 rfl ?_
          refine e_iload_n X hl 2 rfl dX0_isRing_142 rfl ?_
          refine e_iload_n X hl 3 rfl dX0_isRing_143 rfl ?_
          refine e_iconst X dX0_isRing_144 ?_
          refine e_iadd X dX0_isRing_145 ?_
          refine e_lload_n X hl 4 rfl dX0_isRing_146 rfl ?_
          refine e_aload_n X hl 1 rfl dX0_isRing_147 rfl ?_
          refine r_getR X hX.1 ck_X0 40 19 rfl rfl (by decide) q1244 rfl dX0_isRing_148 ?_
          refine e_iload X hl 0 rfl dX0_isRing_151 ?_
          obtain ⟨v11, h, hE⟩ := ob_some hE
          refine x_subV1r (rest := [vL b3, vI (b2 + 1), vI b1, .ref (ad 40)]) X hX (subN nb3) rfl (300 + 20) (dn nb3 20 rfl) ck_X1 (fun hp => met_X1_stepCost l G ad hp 300 (nbN 300) M10 v4 h) (cwV 1 X.ht (lw_V q2837 q2216 q2217 q132 q2218) rfl rfl rfl hd_X1_stepCost (cxH (by omega) (by decide))) rfl hl.1 rfl (Nat.le_of_ble_eq_true rfl) dX0_isRing_153 ⟨Nat.le_of_ble_eq_true rfl, Nat.le_of_ble_eq_true rfl⟩ (fun H locs hX => ?_)
          refine e_ladd X dX0_isRing_156 ?_
          obtain ⟨v12, M13, h, hE⟩ := ob2_some hE
          refine x_callV1 (rest := []) X hX 40 rfl ck_X0 (hrec M10 b1 (b2 + 1) (b3 + v11) h) (cwV 3 X.ht (lw_V q2833 q2835 qs64 q127 q2836) rfl rfl rfl hd_X0_isRing (cxH (by omega) (by decide))) rfl hl.1 rfl (Nat.le_of_ble_eq_true rfl) dX0_isRing_157 ⟨Nat.le_of_ble_eq_true rfl, Nat.le_of_ble_eq_true rfl⟩ 0 0 rfl rfl (fun hp0 H locs hX => ?_)
          refine e_istore X hl [(8, vI v12), (7, vI v4), (0, .ref (ad 40)), (1, vI b1), (2, vI b2), (3, vL b3), (5, vI b5), (6, vI x6)] dX0_isRing_160 (by decide) rfl (fun ls hl => ?_)
          refine e_aload_n X hl 2 rfl dX0_isRing_162 rfl ?_
          refine r_getR X hX.1 ck_X0 40 22 rfl rfl (by decide) q1247 rfl dX0_isRing_163 ?_
          refine e_iload X hl 7 rfl dX0_isRing_166 ?_
          obtain ⟨M14, h, hE⟩ := ob_some hE
          refine x_subV0 (rest := []) X hX (subB bs22) rfl 22 bs22.1 ck_J6 (fun hp => met_J6_clear_2 l G ad hp 22 (bsB 22) M13 x6 h) (cwV 1 X.ht (lw_V q2838 q2839 q2840 q135 q2841) rfl rfl rfl hd_J6_clear_2 (cxH (by omega) (by decide))) rfl hl.1 rfl (Nat.le_of_ble_eq_true rfl) dX0_isRing_168 ⟨Nat.le_of_ble_eq_true rfl, Nat.le_of_ble_eq_true rfl⟩ (fun H locs hX => ?_)
          obtain ⟨M15, hM3, hE⟩ := jn_ex hE
          rw [← hM3] at hX
          refine e_iload X hl 0 rfl dX0_isRing_171 ?_
          refine e_if_eq X (w32 v12) rfl hE dX0_isRing_173 rfl (fun hE => ?_) (fun hE => ?_)
          · refine e_iinc X hl 7 hE (fun v16 => [(6, vI v16), (8, vI v12), (7, vI v4), (0, .ref (ad 40)), (1, vI b1), (2, vI b2), (3, vL b3), (5, vI b5)]) rfl dX0_isRing_178 (by decide) (fun _ => rfl) (fun v16 hE ls hl => ?_)
            refine e_goto X dX0_isRing_181 rfl ?_
            exact ih M15 v16 _ _ _ _ hE hX (lv_sub hl [3, 4, 5, 6, 7, 0] rfl) hk
          · refine e_iconst X dX0_isRing_176 ?_
            cases hE
            exact x_zret (x := 1) X hX ⟨rfl, rfl⟩ rfl (Nat.le_of_ble_eq_true rfl) (Nat.le_of_ble_eq_true rfl) dX0_isRing_177
theorem wb_X0_isRing {p : Program} {l : Launch} {e : Env} {s : State} {m : MethodId} {args : Array Value} {below : List Frame} {meth : Method} {c : Code} {G : GG} {ad : Nat → Nat} (X : CX p s m args meth c cX0_isRing 9 RX0 (some .boolean) G) {dR : Nat} (hdR : 3 ≤ dR) {rec : RM → Int → Int → Int → Option (Int × RM)} (hrec : ∀ (M : RM) (a1 : Int) (a2 : Int) (a3 : Int) {out : (Int × RM)} (_ : rec M a1 a2 a3 = some out), MX l yX0_isRing (ws_ yX0_isRing cX0_isRing 9 (some .boolean)) dR 0 0 G ad [.ref (ad 40), vI a1, vI a2, vL a3] M (Zd (some (vI out.1)) out.2)) {N : Nat} {M : RM} {a1 : Int} {a2 : Int} {a3 : Int}  {out : (Int × RM)} (hE : fb_X0_isRing N rec M a1 a2 a3 = some out) {H : Heap} {locs : List Loc} {ls : Array Slot} {hp0 : HP} (hX : XR G ad hp0 M H locs) (hl : lv_has ls 9 [(0, .ref (ad 40)), (1, vI a1), (2, vI a2), (3, vL a3)]) : W p l e (rmA (dR + 1) 0 0) s m args below meth c H locs 0 0 (QX below G ad args s 0 0 (Zd (some (vI out.1)) out.2)) (F0 m 0 ls []) := by
  unfold fb_X0_isRing at hE
  refine e_aload_n X hl 0 rfl dX0_isRing_0 rfl ?_
  refine r_getR X hX.1 ck_X0 40 21 rfl rfl (by decide) q1246 rfl dX0_isRing_1 ?_
  refine e_iload_n X hl 2 rfl dX0_isRing_4 rfl ?_
  refine e_iconst X dX0_isRing_5 ?_
  refine e_isub X dX0_isRing_6 ?_
  refine r_iald X hX.1 21 rfl (Nat.le_of_ble_eq_true rfl) hE dX0_isRing_7 (fun v1 hE => ?_)
  refine e_istore X hl [(5, vI v1), (0, .ref (ad 40)), (1, vI a1), (2, vI a2), (3, vL a3)] dX0_isRing_8 (by decide) rfl (fun ls hl => ?_)
  refine e_iload_n X hl 3 rfl dX0_isRing_10 rfl ?_
  refine e_iload_n X hl 2 rfl dX0_isRing_11 rfl ?_
  refine e_icmp_ne X (w32 a2) (w32 a1) rfl rfl hE dX0_isRing_12 rfl (fun hE => ?_) (fun hE => ?_)
  · refine e_aload_n X hl 1 rfl dX0_isRing_73 rfl ?_
    refine r_getR X hX.1 ck_X0 40 21 rfl rfl (by decide) q1246 rfl dX0_isRing_74 ?_
    refine e_iconst X dX0_isRing_77 ?_
    refine r_iald X hX.1 21 rfl (Nat.le_of_ble_eq_true rfl) hE dX0_isRing_78 (fun v2 hE => ?_)
    refine e_iconst X dX0_isRing_79 ?_
    refine e_iadd X dX0_isRing_80 ?_
    refine e_top hE (fun v3 hE => ?_)
    refine e_istore X hl [(6, vI v3), (5, vI v1), (0, .ref (ad 40)), (1, vI a1), (2, vI a2), (3, vL a3)] dX0_isRing_81 (by decide) rfl (fun ls hl => ?_)
    refine wl_X0_isRing_83 X hdR hrec _ M v3 _ _ _ _ hE hX (lv_sub hl [2, 3, 4, 5, 1, 0] rfl) (fun M17 v18 hp0 H locs ls hX hl hE => ?_)
    refine e_iconst X dX0_isRing_184 ?_
    cases hE
    exact x_zret (x := 0) X hX ⟨rfl, rfl⟩ rfl (Nat.le_of_ble_eq_true rfl) (Nat.le_of_ble_eq_true rfl) dX0_isRing_185
  · refine e_aload_n X hl 1 rfl dX0_isRing_15 rfl ?_
    refine r_getR X hX.1 ck_X0 40 20 rfl rfl (by decide) q1245 rfl dX0_isRing_16 ?_
    refine e_bipush X dX0_isRing_19 (by decide) ?_
    refine e_iload X hl 0 rfl dX0_isRing_21 ?_
    refine e_imul X dX0_isRing_23 ?_
    refine e_aload_n X hl 1 rfl dX0_isRing_24 rfl ?_
    refine r_getR X hX.1 ck_X0 40 21 rfl rfl (by decide) q1246 rfl dX0_isRing_25 ?_
    refine e_iconst X dX0_isRing_28 ?_
    refine r_iald X hX.1 21 rfl (Nat.le_of_ble_eq_true rfl) hE dX0_isRing_29 (fun v19 hE => ?_)
    refine e_iadd X dX0_isRing_30 ?_
    refine r_iald X hX.1 20 rfl (Nat.le_of_ble_eq_true rfl) hE dX0_isRing_31 (fun v20 hE => ?_)
    refine e_istore X hl [(6, vI v20), (5, vI v1), (0, .ref (ad 40)), (1, vI a1), (2, vI a2), (3, vL a3)] dX0_isRing_32 (by decide) rfl (fun ls hl => ?_)
    refine e_aload_n X hl 2 rfl dX0_isRing_34 rfl ?_
    refine e_iload X hl 0 rfl dX0_isRing_35 ?_
    obtain ⟨kj21, hkj21, hE⟩ := jn_ex hE
    have hjkj21 : ∀ (v22 : Int) (hp0 : HP) (H : Heap) (locs : List Loc) (ls : Array Slot), XR G ad hp0 M H locs → lv_has ls 9 [(0, .ref (ad 40))] → kj21 v22 = some out → W p l e (rmA (dR + 1) 0 0) s m args below meth c H locs 0 0 (QX below G ad args s 0 0 (Zd (some (vI out.1)) out.2)) (F0 m 55 ls [vL v22, .ref (ad 40)]) := by
      intro v22 hp0 H locs ls hX hl hE
      subst hkj21
      refine x_putJ X hX ck_X0 40 24 rfl (by decide) rfl (by decide) q1249 rfl rfl hE rfl dX0_isRing_55 (fun M23 hE H locs hX => ?_)
      refine e_aload_n X hl 0 rfl dX0_isRing_58 rfl ?_
      refine r_getJ X hX.1 ck_X0 40 24 rfl rfl (by decide) q1249 rfl dX0_isRing_59 ?_
      refine e_lconst X 0 dX0_isRing_62 (by decide) ?_
      refine e_lcmp_ge X (w64 (M23 40 24)) 0 rfl (by decide) hE dX0_isRing_63 dX0_isRing_64 rfl (fun hE => ?_) (fun hE => ?_)
      · refine e_iconst X dX0_isRing_71 ?_
        cases hE
        exact x_zret (x := 0) X hX ⟨rfl, rfl⟩ rfl (Nat.le_of_ble_eq_true rfl) (Nat.le_of_ble_eq_true rfl) dX0_isRing_72
      · refine e_iconst X dX0_isRing_67 ?_
        refine e_goto X dX0_isRing_68 rfl ?_
        cases hE
        exact x_zret (x := 1) X hX ⟨rfl, rfl⟩ rfl (Nat.le_of_ble_eq_true rfl) (Nat.le_of_ble_eq_true rfl) dX0_isRing_72
    refine e_if_ge X (w32 v20) rfl hE dX0_isRing_37 rfl (fun hE => ?_) (fun hE => ?_)
    · refine e_lload_n X hl 5 rfl dX0_isRing_44 rfl ?_
      refine e_aload_n X hl 2 rfl dX0_isRing_45 rfl ?_
      refine r_getR X hX.1 ck_X0 40 19 rfl rfl (by decide) q1244 rfl dX0_isRing_46 ?_
      refine e_iload X hl 0 rfl dX0_isRing_49 ?_
      obtain ⟨v24, h, hE⟩ := ob_some hE
      refine x_subV1r (rest := [vL a3, .ref (ad 40)]) X hX (subN nb3) rfl (300 + 20) (dn nb3 20 rfl) ck_X1 (fun hp => met_X1_stepCost l G ad hp 300 (nbN 300) M v20 h) (cwV 1 X.ht (lw_V q2837 q2216 q2217 q132 q2218) rfl rfl rfl hd_X1_stepCost (cxH (by omega) (by decide))) rfl hl.1 rfl (Nat.le_of_ble_eq_true rfl) dX0_isRing_51 ⟨Nat.le_of_ble_eq_true rfl, Nat.le_of_ble_eq_true rfl⟩ (fun H locs hX => ?_)
      refine e_ladd X dX0_isRing_54 ?_
      exact hjkj21 (a3 + v24) _ _ _ _ hX (lv_sub hl [2] rfl) hE
    · refine e_lconst X 0 dX0_isRing_40 (by decide) ?_
      refine e_goto X dX0_isRing_41 rfl ?_
      exact hjkj21 0 _ _ _ _ hX (lv_sub hl [2] rfl) hE
theorem mx_X0_isRing (l : Launch) (G : GG) (ad : Nat → Nat) {N : Nat} : ∀ (n : Nat) (M : RM) (a1 : Int) (a2 : Int) (a3 : Int) {out : (Int × RM)} (_ : f_X0_isRing N n M a1 a2 a3 = some out), MX l yX0_isRing (ws_ yX0_isRing cX0_isRing 9 (some .boolean)) (3 + n) 0 0 G ad [.ref (ad 40), vI a1, vI a2, vL a3] M (Zd (some (vI out.1)) out.2) := by
  intro n
  induction n with
  | zero => intro M a1 a2 a3 out hE; unfold f_X0_isRing at hE; cases hE
  | succ n ih =>
    intro M a1 a2 a3 out hE
    unfold f_X0_isRing at hE
    exact MX.of (by decide +kernel) (Nat.le_of_ble_eq_true rfl) rfl (fun p e s m below meth c ls hp0 X hX hl => wb_X0_isRing X (by omega) (fun M a1 a2 a3 out h => ih M a1 a2 a3 h) hE hX hl)
def f_X0_hasRing_L12 (N : Nat) (b1 : Int) (k : RM → Int → Option (Int × RM)) : Nat → RM → Int → Option (Int × RM)
  | 0, _, _ => none
  | n + 1, M, x2 =>
    if w32 (M 40 0) ≤ w32 x2 then (k M x2) else (ob (f_X1_cheapest 300 N M b1 x2) fun v1 => ob (sA 64 M 20 ((8 * b1) + x2) v1) fun M2 => jn (x2 + 1) fun v3 => f_X0_hasRing_L12 N b1 k n M2 v3)
def f_X0_hasRing_L2 (N : Nat)  (k : RM → Int → Option (Int × RM)) : Nat → RM → Int → Option (Int × RM)
  | 0, _, _ => none
  | n + 1, M, x1 =>
    if w32 (M 40 0) ≤ w32 x1 then (k M x1) else (f_X0_hasRing_L12 N x1 (fun (M4 : RM) (v5 : Int) => jn (x1 + 1) fun v6 => f_X0_hasRing_L2 N  k n M4 v6) N M 0)
def f_X0_hasRing_L64 (N : Nat) (b1 : Int) (k : RM → Int → Option (Int × RM)) : Nat → RM → Int → Option (Int × RM)
  | 0, _, _ => none
  | n + 1, M, x2 =>
    if w32 (M 40 0) ≤ w32 x2 then (k M x2) else (ob (sA 8 M 21 0 x2) fun M9 => ob (f_J6_clear 22 N M9) fun M10 => jn (mg (dB 22) M10 M9) fun M11 => ob (f_J6_set 22 M11 x2) fun M12 => jn (mg (dB 22) M12 M11) fun M13 => ob2 (f_X0_isRing N 9 M13 b1 1 0) fun v14 M15 => if w32 v14 = 0 then (jn (x2 + 1) fun v16 => f_X0_hasRing_L64 N b1 k n M15 v16) else (jn (up2 M15 40 23 b1) fun M17 => some (1, M17)))
def f_X0_hasRing_L54 (N : Nat)  (k : RM → Int → Option (Int × RM)) : Nat → RM → Int → Option (Int × RM)
  | 0, _, _ => none
  | n + 1, M, x1 =>
    if w32 (M 40 0) < w32 x1 then (k M x1) else (f_X0_hasRing_L64 N x1 (fun (M18 : RM) (v19 : Int) => jn (x1 + 1) fun v20 => f_X0_hasRing_L54 N  k n M18 v20) N M 0)
def f_X0_hasRing (N : Nat) (M : RM)  : Option (Int × RM) :=
  f_X0_hasRing_L2 N  (fun (M7 : RM) (v8 : Int) => f_X0_hasRing_L54 N  (fun (M21 : RM) (v22 : Int) => jn (up2 M21 40 23 0) fun M23 => some (0, M23)) N M7 2) N M 0
theorem hd_X0_hasRing : yX0_hasRing.cls = RX0 ∧ yX0_hasRing.cls ≠ "java/lang/invoke/MethodHandle" ∧ yX0_hasRing.cls ≠ "java/lang/invoke/VarHandle" ∧ (parseMethodDescriptor yX0_hasRing.desc).map (fun d => d.parameters.length) = some 0 := by decide +kernel
theorem wl_X0_hasRing_12 {p : Program} {l : Launch} {e : Env} {s : State} {m : MethodId} {args : Array Value} {below : List Frame} {meth : Method} {c : Code} {G : GG} {ad : Nat → Nat} (X : CX p s m args meth c cX0_hasRing 3 RX0 (some .boolean) G) {N : Nat} {b1 : Int} {k : RM → Int → Option (Int × RM)} {out : (Int × RM)} : ∀ (n : Nat) (M : RM) (x2 : Int) (hp0 : HP) (H : Heap) (locs : List Loc) (ls : Array Slot) (hE : f_X0_hasRing_L12 N b1 k n M x2 = some out) (hX : XR G ad hp0 M H locs) (hl : lv_has ls 3 [(0, .ref (ad 40)), (1, vI b1), (2, vI x2)]) (hk : ∀ (M : RM) (x2 : Int) (hp0 : HP) (H : Heap) (locs : List Loc) (ls : Array Slot), XR G ad hp0 M H locs → lv_has ls 3 [(0, .ref (ad 40)), (1, vI b1), (2, vI x2)] → k M x2 = some out → W p l e (rmA 13 0 0) s m args below meth c H locs 0 0 (QX below G ad args s 0 0 (Zd (some (vI out.1)) out.2)) (F0 m 46 ls [])), W p l e (rmA 13 0 0) s m args below meth c H locs 0 0 (QX below G ad args s 0 0 (Zd (some (vI out.1)) out.2)) (F0 m 12 ls []) := by
  intro n
  induction n with
  | zero =>
    intro M x2 hp0 H locs ls hE hX hl hk
    unfold f_X0_hasRing_L12 at hE
    cases hE
  | succ n ih =>
    intro M x2 hp0 H locs ls hE hX hl hk
    unfold f_X0_hasRing_L12 at hE
    refine e_iload_n X hl 2 rfl dX0_hasRing_12 rfl ?_
    refine e_aload_n X hl 0 rfl dX0_hasRing_13 rfl ?_
    refine r_getI X hX.1 ck_X0 40 0 rfl rfl (by decide) q1224 rfl dX0_hasRing_14 ?_
    refine e_icmp_ge X (w32 x2) (w32 (M 40 0)) rfl rfl hE dX0_hasRing_17 rfl (fun hE => ?_) (fun hE => ?_)
    · exact hk M x2 _ _ _ _ hX (lv_sub hl [0, 1, 2] rfl) hE
    · refine e_aload_n X hl 0 rfl dX0_hasRing_20 rfl ?_
      refine r_getR X hX.1 ck_X0 40 20 rfl rfl (by decide) q1245 rfl dX0_hasRing_21 ?_
      refine e_bipush X dX0_hasRing_24 (by decide) ?_
      refine e_iload_n X hl 1 rfl dX0_hasRing_26 rfl ?_
      refine e_imul X dX0_hasRing_27 ?_
      refine e_iload_n X hl 2 rfl dX0_hasRing_28 rfl ?_
      refine e_iadd X dX0_hasRing_29 ?_
      refine e_aload_n X hl 0 rfl dX0_hasRing_30 rfl ?_
      refine r_getR X hX.1 ck_X0 40 19 rfl rfl (by decide) q1244 rfl dX0_hasRing_31 ?_
      refine e_iload_n X hl 1 rfl dX0_hasRing_34 rfl ?_
      refine e_iload_n X hl 2 rfl dX0_hasRing_35 rfl ?_
      obtain ⟨v1, h, hE⟩ := ob_some hE
      refine x_subV1r (rest := [vI ((8 * b1) + x2), .ref (ad 20)]) X hX (subN nb3) rfl (300 + 20) (dn nb3 20 rfl) ck_X1 (fun hp => met_X1_cheapest l G ad hp 300 (nbN 300) M b1 x2 h) (cwV 2 X.ht (lw_V q2552 q2553 q2554 q132 q2555) rfl rfl rfl hd_X1_cheapest (cxH (by decide) (by decide))) rfl hl.1 rfl (Nat.le_of_ble_eq_true rfl) dX0_hasRing_36 ⟨Nat.le_of_ble_eq_true rfl, Nat.le_of_ble_eq_true rfl⟩ (fun H locs hX => ?_)
      refine x_iast X hX 20 rfl (by decide) (Nat.le_of_ble_eq_true rfl) hE dX0_hasRing_39 (fun M2 hE H locs hX => ?_)
      refine e_iinc X hl 2 hE (fun v3 => [(2, vI v3), (0, .ref (ad 40)), (1, vI b1)]) rfl dX0_hasRing_40 (by decide) (fun _ => rfl) (fun v3 hE ls hl => ?_)
      refine e_goto X dX0_hasRing_43 rfl ?_
      exact ih M2 v3 _ _ _ _ hE hX (lv_sub hl [1, 2, 0] rfl) hk
theorem wl_X0_hasRing_2 {p : Program} {l : Launch} {e : Env} {s : State} {m : MethodId} {args : Array Value} {below : List Frame} {meth : Method} {c : Code} {G : GG} {ad : Nat → Nat} (X : CX p s m args meth c cX0_hasRing 3 RX0 (some .boolean) G) {N : Nat}  {k : RM → Int → Option (Int × RM)} {out : (Int × RM)} : ∀ (n : Nat) (M : RM) (x1 : Int) (hp0 : HP) (H : Heap) (locs : List Loc) (ls : Array Slot) (hE : f_X0_hasRing_L2 N  k n M x1 = some out) (hX : XR G ad hp0 M H locs) (hl : lv_has ls 3 [(0, .ref (ad 40)), (1, vI x1)]) (hk : ∀ (M : RM) (x1 : Int) (hp0 : HP) (H : Heap) (locs : List Loc) (ls : Array Slot), XR G ad hp0 M H locs → lv_has ls 3 [(0, .ref (ad 40)), (1, vI x1)] → k M x1 = some out → W p l e (rmA 13 0 0) s m args below meth c H locs 0 0 (QX below G ad args s 0 0 (Zd (some (vI out.1)) out.2)) (F0 m 52 ls [])), W p l e (rmA 13 0 0) s m args below meth c H locs 0 0 (QX below G ad args s 0 0 (Zd (some (vI out.1)) out.2)) (F0 m 2 ls []) := by
  intro n
  induction n with
  | zero =>
    intro M x1 hp0 H locs ls hE hX hl hk
    unfold f_X0_hasRing_L2 at hE
    cases hE
  | succ n ih =>
    intro M x1 hp0 H locs ls hE hX hl hk
    unfold f_X0_hasRing_L2 at hE
    refine e_iload_n X hl 1 rfl dX0_hasRing_2 rfl ?_
    refine e_aload_n X hl 0 rfl dX0_hasRing_3 rfl ?_
    refine r_getI X hX.1 ck_X0 40 0 rfl rfl (by decide) q1224 rfl dX0_hasRing_4 ?_
    refine e_icmp_ge X (w32 x1) (w32 (M 40 0)) rfl rfl hE dX0_hasRing_7 rfl (fun hE => ?_) (fun hE => ?_)
    · exact hk M x1 _ _ _ _ hX (lv_sub hl [0, 1] rfl) hE
    · refine e_iconst X dX0_hasRing_10 ?_
      refine e_istore_n X hl [(2, vI 0), (0, .ref (ad 40)), (1, vI x1)] dX0_hasRing_11 rfl (by decide) rfl (fun ls hl => ?_)
      refine wl_X0_hasRing_12 X _ M 0 _ _ _ _ hE hX (lv_sub hl [1, 2, 0] rfl) (fun M4 v5 hp0 H locs ls hX hl hE => ?_)
      refine e_iinc X hl 1 hE (fun v6 => [(1, vI v6), (0, .ref (ad 40)), (2, vI v5)]) rfl dX0_hasRing_46 (by decide) (fun _ => rfl) (fun v6 hE ls hl => ?_)
      refine e_goto X dX0_hasRing_49 rfl ?_
      exact ih M4 v6 _ _ _ _ hE hX (lv_sub hl [1, 0] rfl) hk
theorem wl_X0_hasRing_64 {p : Program} {l : Launch} {e : Env} {s : State} {m : MethodId} {args : Array Value} {below : List Frame} {meth : Method} {c : Code} {G : GG} {ad : Nat → Nat} (X : CX p s m args meth c cX0_hasRing 3 RX0 (some .boolean) G) {N : Nat} {b1 : Int} {k : RM → Int → Option (Int × RM)} {out : (Int × RM)} : ∀ (n : Nat) (M : RM) (x2 : Int) (hp0 : HP) (H : Heap) (locs : List Loc) (ls : Array Slot) (hE : f_X0_hasRing_L64 N b1 k n M x2 = some out) (hX : XR G ad hp0 M H locs) (hl : lv_has ls 3 [(0, .ref (ad 40)), (1, vI b1), (2, vI x2)]) (hk : ∀ (M : RM) (x2 : Int) (hp0 : HP) (H : Heap) (locs : List Loc) (ls : Array Slot), XR G ad hp0 M H locs → lv_has ls 3 [(0, .ref (ad 40)), (1, vI b1), (2, vI x2)] → k M x2 = some out → W p l e (rmA 13 0 0) s m args below meth c H locs 0 0 (QX below G ad args s 0 0 (Zd (some (vI out.1)) out.2)) (F0 m 117 ls [])), W p l e (rmA 13 0 0) s m args below meth c H locs 0 0 (QX below G ad args s 0 0 (Zd (some (vI out.1)) out.2)) (F0 m 64 ls []) := by
  intro n
  induction n with
  | zero =>
    intro M x2 hp0 H locs ls hE hX hl hk
    unfold f_X0_hasRing_L64 at hE
    cases hE
  | succ n ih =>
    intro M x2 hp0 H locs ls hE hX hl hk
    unfold f_X0_hasRing_L64 at hE
    refine e_iload_n X hl 2 rfl dX0_hasRing_64 rfl ?_
    refine e_aload_n X hl 0 rfl dX0_hasRing_65 rfl ?_
    refine r_getI X hX.1 ck_X0 40 0 rfl rfl (by decide) q1224 rfl dX0_hasRing_66 ?_
    refine e_icmp_ge X (w32 x2) (w32 (M 40 0)) rfl rfl hE dX0_hasRing_69 rfl (fun hE => ?_) (fun hE => ?_)
    · exact hk M x2 _ _ _ _ hX (lv_sub hl [0, 1, 2] rfl) hE
    · refine e_aload_n X hl 0 rfl dX0_hasRing_72 rfl ?_
      refine r_getR X hX.1 ck_X0 40 21 rfl rfl (by decide) q1246 rfl dX0_hasRing_73 ?_
      refine e_iconst X dX0_hasRing_76 ?_
      refine e_iload_n X hl 2 rfl dX0_hasRing_77 rfl ?_
      refine x_iast X hX 21 rfl (by decide) (Nat.le_of_ble_eq_true rfl) hE dX0_hasRing_78 (fun M9 hE H locs hX => ?_)
      refine e_aload_n X hl 0 rfl dX0_hasRing_79 rfl ?_
      refine r_getR X hX.1 ck_X0 40 22 rfl rfl (by decide) q1247 rfl dX0_hasRing_80 ?_
      obtain ⟨M10, h, hE⟩ := ob_some hE
      refine x_subV0 (rest := []) X hX (subB bs22) rfl 22 bs22.1 ck_J6 (fun hp => met_J6_clear l G ad hp 22 (bsB 22) M9 h) (cwV 0 X.ht (lw_V q2831 q2283 q2284 q135 q2285) rfl rfl rfl hd_J6_clear (cxH (by decide) (by decide))) rfl hl.1 rfl (Nat.le_of_ble_eq_true rfl) dX0_hasRing_83 ⟨Nat.le_of_ble_eq_true rfl, Nat.le_of_ble_eq_true rfl⟩ (fun H locs hX => ?_)
      obtain ⟨M11, hM3, hE⟩ := jn_ex hE
      rw [← hM3] at hX
      refine e_aload_n X hl 0 rfl dX0_hasRing_86 rfl ?_
      refine r_getR X hX.1 ck_X0 40 22 rfl rfl (by decide) q1247 rfl dX0_hasRing_87 ?_
      refine e_iload_n X hl 2 rfl dX0_hasRing_90 rfl ?_
      obtain ⟨M12, h, hE⟩ := ob_some hE
      refine x_subV0 (rest := []) X hX (subB bs22) rfl 22 bs22.1 ck_J6 (fun hp => met_J6_set l G ad hp 22 (bsB 22) M11 x2 h) (cwV 1 X.ht (lw_V q2832 q2287 q2288 q135 q2289) rfl rfl rfl hd_J6_set (cxH (by decide) (by decide))) rfl hl.1 rfl (Nat.le_of_ble_eq_true rfl) dX0_hasRing_91 ⟨Nat.le_of_ble_eq_true rfl, Nat.le_of_ble_eq_true rfl⟩ (fun H locs hX => ?_)
      obtain ⟨M13, hM3, hE⟩ := jn_ex hE
      rw [← hM3] at hX
      refine e_aload_n X hl 0 rfl dX0_hasRing_94 rfl ?_
      refine e_iload_n X hl 1 rfl dX0_hasRing_95 rfl ?_
      refine e_iconst X dX0_hasRing_96 ?_
      refine e_lconst X 0 dX0_hasRing_97 (by decide) ?_
      obtain ⟨v14, M15, h, hE⟩ := ob2_some hE
      refine x_callV1 (rest := []) X hX 40 rfl ck_X0 (mx_X0_isRing l G ad 9 M13 b1 1 0 h) (cwV 3 X.ht (lw_V q2833 q2835 qs64 q127 q2836) rfl rfl rfl hd_X0_isRing (cxH (by decide) (by decide))) rfl hl.1 rfl (Nat.le_of_ble_eq_true rfl) dX0_hasRing_98 ⟨Nat.le_of_ble_eq_true rfl, Nat.le_of_ble_eq_true rfl⟩ 0 0 rfl rfl (fun hp0 H locs hX => ?_)
      refine e_if_eq X (w32 v14) rfl hE dX0_hasRing_101 rfl (fun hE => ?_) (fun hE => ?_)
      · refine e_iinc X hl 2 hE (fun v16 => [(2, vI v16), (0, .ref (ad 40)), (1, vI b1)]) rfl dX0_hasRing_111 (by decide) (fun _ => rfl) (fun v16 hE ls hl => ?_)
        refine e_goto X dX0_hasRing_114 rfl ?_
        exact ih M15 v16 _ _ _ _ hE hX (lv_sub hl [1, 2, 0] rfl) hk
      · refine e_aload_n X hl 0 rfl dX0_hasRing_104 rfl ?_
        refine e_iload_n X hl 1 rfl dX0_hasRing_105 rfl ?_
        refine x_putI X hX ck_X0 40 23 rfl (by decide) rfl (by decide) q1248 rfl rfl hE rfl dX0_hasRing_106 (fun M17 hE H locs hX => ?_)
        refine e_iconst X dX0_hasRing_109 ?_
        cases hE
        exact x_zret (x := 1) X hX ⟨rfl, rfl⟩ rfl (Nat.le_of_ble_eq_true rfl) (Nat.le_of_ble_eq_true rfl) dX0_hasRing_110
theorem wl_X0_hasRing_54 {p : Program} {l : Launch} {e : Env} {s : State} {m : MethodId} {args : Array Value} {below : List Frame} {meth : Method} {c : Code} {G : GG} {ad : Nat → Nat} (X : CX p s m args meth c cX0_hasRing 3 RX0 (some .boolean) G) {N : Nat}  {k : RM → Int → Option (Int × RM)} {out : (Int × RM)} : ∀ (n : Nat) (M : RM) (x1 : Int) (hp0 : HP) (H : Heap) (locs : List Loc) (ls : Array Slot) (hE : f_X0_hasRing_L54 N  k n M x1 = some out) (hX : XR G ad hp0 M H locs) (hl : lv_has ls 3 [(0, .ref (ad 40)), (1, vI x1)]) (hk : ∀ (M : RM) (x1 : Int) (hp0 : HP) (H : Heap) (locs : List Loc) (ls : Array Slot), XR G ad hp0 M H locs → lv_has ls 3 [(0, .ref (ad 40)), (1, vI x1)] → k M x1 = some out → W p l e (rmA 13 0 0) s m args below meth c H locs 0 0 (QX below G ad args s 0 0 (Zd (some (vI out.1)) out.2)) (F0 m 123 ls [])), W p l e (rmA 13 0 0) s m args below meth c H locs 0 0 (QX below G ad args s 0 0 (Zd (some (vI out.1)) out.2)) (F0 m 54 ls []) := by
  intro n
  induction n with
  | zero =>
    intro M x1 hp0 H locs ls hE hX hl hk
    unfold f_X0_hasRing_L54 at hE
    cases hE
  | succ n ih =>
    intro M x1 hp0 H locs ls hE hX hl hk
    unfold f_X0_hasRing_L54 at hE
    refine e_iload_n X hl 1 rfl dX0_hasRing_54 rfl ?_
    refine e_aload_n X hl 0 rfl dX0_hasRing_55 rfl ?_
    refine r_getI X hX.1 ck_X0 40 0 rfl rfl (by decide) q1224 rfl dX0_hasRing_56 ?_
    refine e_icmp_gt X (w32 x1) (w32 (M 40 0)) rfl rfl hE dX0_hasRing_59 rfl (fun hE => ?_) (fun hE => ?_)
    · exact hk M x1 _ _ _ _ hX (lv_sub hl [0, 1] rfl) hE
    · refine e_iconst X dX0_hasRing_62 ?_
      refine e_istore_n X hl [(2, vI 0), (0, .ref (ad 40)), (1, vI x1)] dX0_hasRing_63 rfl (by decide) rfl (fun ls hl => ?_)
      refine wl_X0_hasRing_64 X _ M 0 _ _ _ _ hE hX (lv_sub hl [1, 2, 0] rfl) (fun M18 v19 hp0 H locs ls hX hl hE => ?_)
      refine e_iinc X hl 1 hE (fun v20 => [(1, vI v20), (0, .ref (ad 40)), (2, vI v19)]) rfl dX0_hasRing_117 (by decide) (fun _ => rfl) (fun v20 hE ls hl => ?_)
      refine e_goto X dX0_hasRing_120 rfl ?_
      exact ih M18 v20 _ _ _ _ hE hX (lv_sub hl [1, 0] rfl) hk
theorem wb_X0_hasRing {p : Program} {l : Launch} {e : Env} {s : State} {m : MethodId} {args : Array Value} {below : List Frame} {meth : Method} {c : Code} {G : GG} {ad : Nat → Nat} (X : CX p s m args meth c cX0_hasRing 3 RX0 (some .boolean) G) {N : Nat} {M : RM}  {out : (Int × RM)} (hE : f_X0_hasRing N M = some out) {H : Heap} {locs : List Loc} {ls : Array Slot} {hp0 : HP} (hX : XR G ad hp0 M H locs) (hl : lv_has ls 3 [(0, .ref (ad 40))]) : W p l e (rmA 13 0 0) s m args below meth c H locs 0 0 (QX below G ad args s 0 0 (Zd (some (vI out.1)) out.2)) (F0 m 0 ls []) := by
  unfold f_X0_hasRing at hE
  refine e_iconst X dX0_hasRing_0 ?_
  refine e_istore_n X hl [(1, vI 0), (0, .ref (ad 40))] dX0_hasRing_1 rfl (by decide) rfl (fun ls hl => ?_)
  refine wl_X0_hasRing_2 X _ M 0 _ _ _ _ hE hX (lv_sub hl [1, 0] rfl) (fun M7 v8 hp0 H locs ls hX hl hE => ?_)
  refine e_iconst X dX0_hasRing_52 ?_
  refine e_istore_n X hl [(1, vI 2), (0, .ref (ad 40))] dX0_hasRing_53 rfl (by decide) rfl (fun ls hl => ?_)
  refine wl_X0_hasRing_54 X _ M7 2 _ _ _ _ hE hX (lv_sub hl [1, 0] rfl) (fun M21 v22 hp0 H locs ls hX hl hE => ?_)
  refine e_aload_n X hl 0 rfl dX0_hasRing_123 rfl ?_
  refine e_iconst X dX0_hasRing_124 ?_
  refine x_putI X hX ck_X0 40 23 rfl (by decide) rfl (by decide) q1248 rfl rfl hE rfl dX0_hasRing_125 (fun M23 hE H locs hX => ?_)
  refine e_iconst X dX0_hasRing_128 ?_
  cases hE
  exact x_zret (x := 0) X hX ⟨rfl, rfl⟩ rfl (Nat.le_of_ble_eq_true rfl) (Nat.le_of_ble_eq_true rfl) dX0_hasRing_129
theorem mx_X0_hasRing (l : Launch) (G : GG) (ad : Nat → Nat) {N : Nat} (M : RM)   {out : (Int × RM)} (hE : f_X0_hasRing N M = some out) : MX l yX0_hasRing (ws_ yX0_hasRing cX0_hasRing 3 (some .boolean)) 13 0 0 G ad [.ref (ad 40)] M (Zd (some (vI out.1)) out.2) :=
  MX.of (by decide +kernel) (Nat.le_of_ble_eq_true rfl) rfl (fun p e s m below meth c ls hp0 X hX hl => wb_X0_hasRing X hE hX hl)
def f_X0_ringStep (M0 : RM) (a1 : Int) : Option Int :=
  ob (gA 8 M0 21 a1) fun v1 => if w32 (M0 40 23) = 0 then none else jn (iRem (a1 + 1) (M0 40 23)) fun v2 => ob (gA 8 M0 21 v2) fun v3 => ob (gA 64 M0 20 ((8 * v1) + v3)) fun v4 => some v4
theorem hd_X0_ringStep : yX0_ringStep.cls = RX0 ∧ yX0_ringStep.cls ≠ "java/lang/invoke/MethodHandle" ∧ yX0_ringStep.cls ≠ "java/lang/invoke/VarHandle" ∧ (parseMethodDescriptor yX0_ringStep.desc).map (fun d => d.parameters.length) = some 1 := by decide +kernel
theorem wb_X0_ringStep {p : Program} {l : Launch} {e : Env} {s : State} {m : MethodId} {args : Array Value} {below : List Frame} {meth : Method} {c : Code} {G : GG} {ad : Nat → Nat} {M0 : RM} (X : CX p s m args meth c cX0_ringStep 2 RX0 (some .int) G) {a1 : Int}  {out : Int} (hE : f_X0_ringStep M0 a1 = some out) {H : Heap} {locs : List Loc} {ls : Array Slot} {hp0 : HP} (hX : XR G ad hp0 M0 H locs) (hl : lv_has ls 2 [(0, .ref (ad 40)), (1, vI a1)]) : W p l e (rmA 0 0 0) s m args below meth c H locs 0 0 (QX below G ad args s 0 0 (Zd (some (vI out)) M0)) (F0 m 0 ls []) := by
  unfold f_X0_ringStep at hE
  refine e_aload_n X hl 0 rfl dX0_ringStep_0 rfl ?_
  refine r_getR X hX.1 ck_X0 40 20 rfl rfl (by decide) q1245 rfl dX0_ringStep_1 ?_
  refine e_bipush X dX0_ringStep_4 (by decide) ?_
  refine e_aload_n X hl 0 rfl dX0_ringStep_6 rfl ?_
  refine r_getR X hX.1 ck_X0 40 21 rfl rfl (by decide) q1246 rfl dX0_ringStep_7 ?_
  refine e_iload_n X hl 1 rfl dX0_ringStep_10 rfl ?_
  refine r_iald X hX.1 21 rfl (Nat.le_of_ble_eq_true rfl) hE dX0_ringStep_11 (fun v1 hE => ?_)
  refine e_imul X dX0_ringStep_12 ?_
  refine e_aload_n X hl 0 rfl dX0_ringStep_13 rfl ?_
  refine r_getR X hX.1 ck_X0 40 21 rfl rfl (by decide) q1246 rfl dX0_ringStep_14 ?_
  refine e_iload_n X hl 1 rfl dX0_ringStep_17 rfl ?_
  refine e_iconst X dX0_ringStep_18 ?_
  refine e_iadd X dX0_ringStep_19 ?_
  refine e_aload_n X hl 0 rfl dX0_ringStep_20 rfl ?_
  refine r_getI X hX.1 ck_X0 40 23 rfl rfl (by decide) q1248 rfl dX0_ringStep_21 ?_
  refine e_iremQ X hE dX0_ringStep_24 (fun v2 hE => ?_)
  refine r_iald X hX.1 21 rfl (Nat.le_of_ble_eq_true rfl) hE dX0_ringStep_25 (fun v3 hE => ?_)
  refine e_iadd X dX0_ringStep_26 ?_
  refine r_iald X hX.1 20 rfl (Nat.le_of_ble_eq_true rfl) hE dX0_ringStep_27 (fun v4 hE => ?_)
  cases hE
  exact x_zret X hX ⟨rfl, rfl⟩ rfl (Nat.le_of_ble_eq_true rfl) (Nat.le_of_ble_eq_true rfl) dX0_ringStep_28
theorem mx_X0_ringStep (l : Launch) (G : GG) (ad : Nat → Nat) (M0 : RM) (a1 : Int)  {out : Int} (hE : f_X0_ringStep M0 a1 = some out) : MX l yX0_ringStep (ws_ yX0_ringStep cX0_ringStep 2 (some .int)) 0 0 0 G ad [.ref (ad 40), vI a1] M0 (Zd (some (vI out)) M0) :=
  MX.of (by decide +kernel) (Nat.le_of_ble_eq_true rfl) rfl (fun p e s m below meth c ls hp0 X hX hl => wb_X0_ringStep X hE hX hl)
def f_X0_turnsRing_L5 (N : Nat) (M : RM)  (k : Int → Int → Option RM) : Nat → Int → Int → Option RM
  | 0, _, _ => none
  | n + 1, x1, x2 =>
    if w32 (M 40 23) ≤ w32 x2 then (k x1 x2) else (ob (f_X0_ringStep M x2) fun v1 => ob (f_X1_room 300 M v1) fun v2 => jn (if w32 v2 < w32 x1 then v2 else x1) fun v3 => jn (x2 + 1) fun v4 => f_X0_turnsRing_L5 N M  k n v3 v4)
def f_X0_turnsRing_L38 (N : Nat) (b1 : Int) (k : RM → Int → Option RM) : Nat → RM → Int → Option RM
  | 0, _, _ => none
  | n + 1, M, x2 =>
    if w32 (M 40 23) ≤ w32 x2 then (k M x2) else (ob (f_X0_ringStep M x2) fun v7 => ob (f_X1_goes 300 M v7 b1) fun M8 => jn (mg (dN 300) M8 M) fun M9 => jn (x2 + 1) fun v10 => f_X0_turnsRing_L38 N b1 k n M9 v10)
def f_X0_turnsRing (N : Nat) (M : RM)  : Option RM :=
  f_X0_turnsRing_L5 N M  (fun (v5 : Int) (v6 : Int) => f_X0_turnsRing_L38 N v5 (fun (M11 : RM) (v12 : Int) => some M11) N M 0) N 99 0
theorem hd_X0_turnsRing : yX0_turnsRing.cls = RX0 ∧ yX0_turnsRing.cls ≠ "java/lang/invoke/MethodHandle" ∧ yX0_turnsRing.cls ≠ "java/lang/invoke/VarHandle" ∧ (parseMethodDescriptor yX0_turnsRing.desc).map (fun d => d.parameters.length) = some 0 := by decide +kernel
theorem wl_X0_turnsRing_5 {p : Program} {l : Launch} {e : Env} {s : State} {m : MethodId} {args : Array Value} {below : List Frame} {meth : Method} {c : Code} {G : GG} {ad : Nat → Nat} (X : CX p s m args meth c cX0_turnsRing 3 RX0 none G) {N : Nat} {M : RM}  {k : Int → Int → Option RM} {out : RM} : ∀ (n : Nat) (x1 : Int) (x2 : Int) (hp0 : HP) (H : Heap) (locs : List Loc) (ls : Array Slot) (hE : f_X0_turnsRing_L5 N M  k n x1 x2 = some out) (hX : XR G ad hp0 M H locs) (hl : lv_has ls 3 [(0, .ref (ad 40)), (1, vI x1), (2, vI x2)]) (hk : ∀ (x1 : Int) (x2 : Int) (hp0 : HP) (H : Heap) (locs : List Loc) (ls : Array Slot), XR G ad hp0 M H locs → lv_has ls 3 [(0, .ref (ad 40)), (1, vI x1), (2, vI x2)] → k x1 x2 = some out → W p l e (rmA 1 0 0) s m args below meth c H locs 0 0 (QX below G ad args s 0 0 (Zd none out)) (F0 m 36 ls [])), W p l e (rmA 1 0 0) s m args below meth c H locs 0 0 (QX below G ad args s 0 0 (Zd none out)) (F0 m 5 ls []) := by
  intro n
  induction n with
  | zero =>
    intro x1 x2 hp0 H locs ls hE hX hl hk
    unfold f_X0_turnsRing_L5 at hE
    cases hE
  | succ n ih =>
    intro x1 x2 hp0 H locs ls hE hX hl hk
    unfold f_X0_turnsRing_L5 at hE
    refine e_iload_n X hl 2 rfl dX0_turnsRing_5 rfl ?_
    refine e_aload_n X hl 0 rfl dX0_turnsRing_6 rfl ?_
    refine r_getI X hX.1 ck_X0 40 23 rfl rfl (by decide) q1248 rfl dX0_turnsRing_7 ?_
    refine e_icmp_ge X (w32 x2) (w32 (M 40 23)) rfl rfl hE dX0_turnsRing_10 rfl (fun hE => ?_) (fun hE => ?_)
    · exact hk x1 x2 _ _ _ _ hX (lv_sub hl [0, 1, 2] rfl) hE
    · refine e_iload_n X hl 1 rfl dX0_turnsRing_13 rfl ?_
      refine e_aload_n X hl 0 rfl dX0_turnsRing_14 rfl ?_
      refine r_getR X hX.1 ck_X0 40 19 rfl rfl (by decide) q1244 rfl dX0_turnsRing_15 ?_
      refine e_aload_n X hl 0 rfl dX0_turnsRing_18 rfl ?_
      refine e_iload_n X hl 2 rfl dX0_turnsRing_19 rfl ?_
      obtain ⟨v1, h, hE⟩ := ob_some hE
      refine x_callV1 (rest := [.ref (ad (300 + 20)), vI x1]) X hX 40 rfl ck_X0 (mx_X0_ringStep l G ad M x2 h) (cwV 1 X.ht (lw_V q2863 q2865 qs67 q127 q2866) rfl rfl rfl hd_X0_ringStep (cxH (by decide) (by decide))) rfl hl.1 rfl (Nat.le_of_ble_eq_true rfl) dX0_turnsRing_20 ⟨Nat.le_of_ble_eq_true rfl, Nat.le_of_ble_eq_true rfl⟩ 0 0 rfl rfl (fun hp0 H locs hX => ?_)
      obtain ⟨v2, h, hE⟩ := ob_some hE
      refine x_subV1r (rest := [vI x1]) X hX (subN nb3) rfl (300 + 20) (dn nb3 20 rfl) ck_X1 (fun hp => met_X1_room l G ad hp 300 (nbN 300) M v1 h) (cwV 1 X.ht (lw_V q2867 q2208 q2209 q132 q2210) rfl rfl rfl hd_X1_room (cxH (by decide) (by decide))) rfl hl.1 rfl (Nat.le_of_ble_eq_true rfl) dX0_turnsRing_23 ⟨Nat.le_of_ble_eq_true rfl, Nat.le_of_ble_eq_true rfl⟩ (fun H locs hX => ?_)
      refine e_min X hl.1 q2868 q442 q145 q443 (dd := 0) rfl (Nat.le_of_ble_eq_true rfl) (Nat.le_of_ble_eq_true rfl) (Nat.le_of_ble_eq_true rfl) dX0_turnsRing_26 ?_
      refine e_top hE (fun v3 hE => ?_)
      refine e_istore_n X hl [(1, vI v3), (0, .ref (ad 40)), (2, vI x2)] dX0_turnsRing_29 rfl (by decide) rfl (fun ls hl => ?_)
      refine e_iinc X hl 2 hE (fun v4 => [(2, vI v4), (1, vI v3), (0, .ref (ad 40))]) rfl dX0_turnsRing_30 (by decide) (fun _ => rfl) (fun v4 hE ls hl => ?_)
      refine e_goto X dX0_turnsRing_33 rfl ?_
      exact ih v3 v4 _ _ _ _ hE hX (lv_sub hl [2, 1, 0] rfl) hk
theorem wl_X0_turnsRing_38 {p : Program} {l : Launch} {e : Env} {s : State} {m : MethodId} {args : Array Value} {below : List Frame} {meth : Method} {c : Code} {G : GG} {ad : Nat → Nat} (X : CX p s m args meth c cX0_turnsRing 3 RX0 none G) {N : Nat} {b1 : Int} {k : RM → Int → Option RM} {out : RM} : ∀ (n : Nat) (M : RM) (x2 : Int) (hp0 : HP) (H : Heap) (locs : List Loc) (ls : Array Slot) (hE : f_X0_turnsRing_L38 N b1 k n M x2 = some out) (hX : XR G ad hp0 M H locs) (hl : lv_has ls 3 [(0, .ref (ad 40)), (1, vI b1), (2, vI x2)]) (hk : ∀ (M : RM) (x2 : Int) (hp0 : HP) (H : Heap) (locs : List Loc) (ls : Array Slot), XR G ad hp0 M H locs → lv_has ls 3 [(0, .ref (ad 40)), (1, vI b1), (2, vI x2)] → k M x2 = some out → W p l e (rmA 1 0 0) s m args below meth c H locs 0 0 (QX below G ad args s 0 0 (Zd none out)) (F0 m 65 ls [])), W p l e (rmA 1 0 0) s m args below meth c H locs 0 0 (QX below G ad args s 0 0 (Zd none out)) (F0 m 38 ls []) := by
  intro n
  induction n with
  | zero =>
    intro M x2 hp0 H locs ls hE hX hl hk
    unfold f_X0_turnsRing_L38 at hE
    cases hE
  | succ n ih =>
    intro M x2 hp0 H locs ls hE hX hl hk
    unfold f_X0_turnsRing_L38 at hE
    refine e_iload_n X hl 2 rfl dX0_turnsRing_38 rfl ?_
    refine e_aload_n X hl 0 rfl dX0_turnsRing_39 rfl ?_
    refine r_getI X hX.1 ck_X0 40 23 rfl rfl (by decide) q1248 rfl dX0_turnsRing_40 ?_
    refine e_icmp_ge X (w32 x2) (w32 (M 40 23)) rfl rfl hE dX0_turnsRing_43 rfl (fun hE => ?_) (fun hE => ?_)
    · exact hk M x2 _ _ _ _ hX (lv_sub hl [0, 1, 2] rfl) hE
    · refine e_aload_n X hl 0 rfl dX0_turnsRing_46 rfl ?_
      refine r_getR X hX.1 ck_X0 40 19 rfl rfl (by decide) q1244 rfl dX0_turnsRing_47 ?_
      refine e_aload_n X hl 0 rfl dX0_turnsRing_50 rfl ?_
      refine e_iload_n X hl 2 rfl dX0_turnsRing_51 rfl ?_
      obtain ⟨v7, h, hE⟩ := ob_some hE
      refine x_callV1 (rest := [.ref (ad (300 + 20))]) X hX 40 rfl ck_X0 (mx_X0_ringStep l G ad M x2 h) (cwV 1 X.ht (lw_V q2863 q2865 qs67 q127 q2866) rfl rfl rfl hd_X0_ringStep (cxH (by decide) (by decide))) rfl hl.1 rfl (Nat.le_of_ble_eq_true rfl) dX0_turnsRing_52 ⟨Nat.le_of_ble_eq_true rfl, Nat.le_of_ble_eq_true rfl⟩ 0 0 rfl rfl (fun hp0 H locs hX => ?_)
      refine e_iload_n X hl 1 rfl dX0_turnsRing_55 rfl ?_
      obtain ⟨M8, h, hE⟩ := ob_some hE
      refine x_subV0 (rest := []) X hX (subN nb3) rfl (300 + 20) (dn nb3 20 rfl) ck_X1 (fun hp => met_X1_goes l G ad hp 300 (nbN 300) M v7 b1 h) (cwV 2 X.ht (lw_V q2869 q2241 q2242 q132 q2243) rfl rfl rfl hd_X1_goes (cxH (by decide) (by decide))) rfl hl.1 rfl (Nat.le_of_ble_eq_true rfl) dX0_turnsRing_56 ⟨Nat.le_of_ble_eq_true rfl, Nat.le_of_ble_eq_true rfl⟩ (fun H locs hX => ?_)
      obtain ⟨M9, hM3, hE⟩ := jn_ex hE
      rw [← hM3] at hX
      refine e_iinc X hl 2 hE (fun v10 => [(2, vI v10), (0, .ref (ad 40)), (1, vI b1)]) rfl dX0_turnsRing_59 (by decide) (fun _ => rfl) (fun v10 hE ls hl => ?_)
      refine e_goto X dX0_turnsRing_62 rfl ?_
      exact ih M9 v10 _ _ _ _ hE hX (lv_sub hl [1, 2, 0] rfl) hk
theorem wb_X0_turnsRing {p : Program} {l : Launch} {e : Env} {s : State} {m : MethodId} {args : Array Value} {below : List Frame} {meth : Method} {c : Code} {G : GG} {ad : Nat → Nat} (X : CX p s m args meth c cX0_turnsRing 3 RX0 none G) {N : Nat} {M : RM}  {out : RM} (hE : f_X0_turnsRing N M = some out) {H : Heap} {locs : List Loc} {ls : Array Slot} {hp0 : HP} (hX : XR G ad hp0 M H locs) (hl : lv_has ls 3 [(0, .ref (ad 40))]) : W p l e (rmA 1 0 0) s m args below meth c H locs 0 0 (QX below G ad args s 0 0 (Zd none out)) (F0 m 0 ls []) := by
  unfold f_X0_turnsRing at hE
  refine e_bipush X dX0_turnsRing_0 (by decide) ?_
  refine e_istore_n X hl [(1, vI 99), (0, .ref (ad 40))] dX0_turnsRing_2 rfl (by decide) rfl (fun ls hl => ?_)
  refine e_iconst X dX0_turnsRing_3 ?_
  refine e_istore_n X hl [(2, vI 0), (1, vI 99), (0, .ref (ad 40))] dX0_turnsRing_4 rfl (by decide) rfl (fun ls hl => ?_)
  refine wl_X0_turnsRing_5 X _ 99 0 _ _ _ _ hE hX (lv_sub hl [2, 1, 0] rfl) (fun v5 v6 hp0 H locs ls hX hl hE => ?_)
  refine e_iconst X dX0_turnsRing_36 ?_
  refine e_istore_n X hl [(2, vI 0), (0, .ref (ad 40)), (1, vI v5)] dX0_turnsRing_37 rfl (by decide) rfl (fun ls hl => ?_)
  refine wl_X0_turnsRing_38 X _ M 0 _ _ _ _ hE hX (lv_sub hl [1, 2, 0] rfl) (fun M11 v12 hp0 H locs ls hX hl hE => ?_)
  cases hE
  exact x_vret X hX ⟨rfl, rfl⟩ (Nat.le_of_ble_eq_true rfl) (Nat.le_of_ble_eq_true rfl) dX0_turnsRing_65
theorem mx_X0_turnsRing (l : Launch) (G : GG) (ad : Nat → Nat) {N : Nat} (M : RM)   {out : RM} (hE : f_X0_turnsRing N M = some out) : MX l yX0_turnsRing (ws_ yX0_turnsRing cX0_turnsRing 3 none) 1 0 0 G ad [.ref (ad 40)] M (Zd none out) :=
  MX.of (by decide +kernel) (Nat.le_of_ble_eq_true rfl) rfl (fun p e s m below meth c ls hp0 X hX hl => wb_X0_turnsRing X hE hX hl)
def f_X0_townLeft_L2 (N : Nat) (M0 : RM)  (k : Int → Option Int) : Nat → Int → Option Int
  | 0, _ => none
  | n + 1, x1 =>
    if w32 (M0 40 0) ≤ w32 x1 then (k x1) else (ob (gA 8 M0 27 x1) fun v1 => if w32 v1 ≤ 0 then (jn (x1 + 1) fun v2 => f_X0_townLeft_L2 N M0  k n v2) else (some x1))
def f_X0_townLeft (N : Nat) (M0 : RM)  : Option Int :=
  f_X0_townLeft_L2 N M0  (fun (v3 : Int) => some (-5)) N 0
theorem hd_X0_townLeft : yX0_townLeft.cls = RX0 ∧ yX0_townLeft.cls ≠ "java/lang/invoke/MethodHandle" ∧ yX0_townLeft.cls ≠ "java/lang/invoke/VarHandle" ∧ (parseMethodDescriptor yX0_townLeft.desc).map (fun d => d.parameters.length) = some 0 := by decide +kernel
theorem wl_X0_townLeft_2 {p : Program} {l : Launch} {e : Env} {s : State} {m : MethodId} {args : Array Value} {below : List Frame} {meth : Method} {c : Code} {G : GG} {ad : Nat → Nat} {M0 : RM} (X : CX p s m args meth c cX0_townLeft 2 RX0 (some .int) G) {N : Nat}  {k : Int → Option Int} {out : Int} : ∀ (n : Nat) (x1 : Int) (hp0 : HP) (H : Heap) (locs : List Loc) (ls : Array Slot) (hE : f_X0_townLeft_L2 N M0  k n x1 = some out) (hX : XR G ad hp0 M0 H locs) (hl : lv_has ls 2 [(0, .ref (ad 40)), (1, vI x1)]) (hk : ∀ (x1 : Int) (hp0 : HP) (H : Heap) (locs : List Loc) (ls : Array Slot), XR G ad hp0 M0 H locs → lv_has ls 2 [(0, .ref (ad 40)), (1, vI x1)] → k x1 = some out → W p l e (rmA 0 0 0) s m args below meth c H locs 0 0 (QX below G ad args s 0 0 (Zd (some (vI out)) M0)) (F0 m 27 ls [])), W p l e (rmA 0 0 0) s m args below meth c H locs 0 0 (QX below G ad args s 0 0 (Zd (some (vI out)) M0)) (F0 m 2 ls []) := by
  intro n
  induction n with
  | zero =>
    intro x1 hp0 H locs ls hE hX hl hk
    unfold f_X0_townLeft_L2 at hE
    cases hE
  | succ n ih =>
    intro x1 hp0 H locs ls hE hX hl hk
    unfold f_X0_townLeft_L2 at hE
    refine e_iload_n X hl 1 rfl dX0_townLeft_2 rfl ?_
    refine e_aload_n X hl 0 rfl dX0_townLeft_3 rfl ?_
    refine r_getI X hX.1 ck_X0 40 0 rfl rfl (by decide) q1224 rfl dX0_townLeft_4 ?_
    refine e_icmp_ge X (w32 x1) (w32 (M0 40 0)) rfl rfl hE dX0_townLeft_7 rfl (fun hE => ?_) (fun hE => ?_)
    · exact hk x1 _ _ _ _ hX (lv_sub hl [0, 1] rfl) hE
    · refine e_aload_n X hl 0 rfl dX0_townLeft_10 rfl ?_
      refine r_getR X hX.1 ck_X0 40 27 rfl rfl (by decide) q1252 rfl dX0_townLeft_11 ?_
      refine e_iload_n X hl 1 rfl dX0_townLeft_14 rfl ?_
      refine r_iald X hX.1 27 rfl (Nat.le_of_ble_eq_true rfl) hE dX0_townLeft_15 (fun v1 hE => ?_)
      refine e_if_le X (w32 v1) rfl hE dX0_townLeft_16 rfl (fun hE => ?_) (fun hE => ?_)
      · refine e_iinc X hl 1 hE (fun v2 => [(1, vI v2), (0, .ref (ad 40))]) rfl dX0_townLeft_21 (by decide) (fun _ => rfl) (fun v2 hE ls hl => ?_)
        refine e_goto X dX0_townLeft_24 rfl ?_
        exact ih v2 _ _ _ _ hE hX (lv_sub hl [1, 0] rfl) hk
      · refine e_iload_n X hl 1 rfl dX0_townLeft_19 rfl ?_
        cases hE
        exact x_zret X hX ⟨rfl, rfl⟩ rfl (Nat.le_of_ble_eq_true rfl) (Nat.le_of_ble_eq_true rfl) dX0_townLeft_20
theorem wb_X0_townLeft {p : Program} {l : Launch} {e : Env} {s : State} {m : MethodId} {args : Array Value} {below : List Frame} {meth : Method} {c : Code} {G : GG} {ad : Nat → Nat} {M0 : RM} (X : CX p s m args meth c cX0_townLeft 2 RX0 (some .int) G) {N : Nat}  {out : Int} (hE : f_X0_townLeft N M0 = some out) {H : Heap} {locs : List Loc} {ls : Array Slot} {hp0 : HP} (hX : XR G ad hp0 M0 H locs) (hl : lv_has ls 2 [(0, .ref (ad 40))]) : W p l e (rmA 0 0 0) s m args below meth c H locs 0 0 (QX below G ad args s 0 0 (Zd (some (vI out)) M0)) (F0 m 0 ls []) := by
  unfold f_X0_townLeft at hE
  refine e_iconst X dX0_townLeft_0 ?_
  refine e_istore_n X hl [(1, vI 0), (0, .ref (ad 40))] dX0_townLeft_1 rfl (by decide) rfl (fun ls hl => ?_)
  refine wl_X0_townLeft_2 X _ 0 _ _ _ _ hE hX (lv_sub hl [1, 0] rfl) (fun v3 hp0 H locs ls hX hl hE => ?_)
  refine e_bipush X dX0_townLeft_27 (by decide) ?_
  cases hE
  exact x_zret (x := (-5)) X hX ⟨rfl, rfl⟩ rfl (Nat.le_of_ble_eq_true rfl) (Nat.le_of_ble_eq_true rfl) dX0_townLeft_29
theorem mx_X0_townLeft (l : Launch) (G : GG) (ad : Nat → Nat) {N : Nat} (M0 : RM)   {out : Int} (hE : f_X0_townLeft N M0 = some out) : MX l yX0_townLeft (ws_ yX0_townLeft cX0_townLeft 2 (some .int)) 0 0 0 G ad [.ref (ad 40)] M0 (Zd (some (vI out)) M0) :=
  MX.of (by decide +kernel) (Nat.le_of_ble_eq_true rfl) rfl (fun p e s m below meth c ls hp0 X hX hl => wb_X0_townLeft X hE hX hl)
def f_X0_roadLeftFrom_L2 (N : Nat) (M0 : RM) (b1 : Int) (k : Int → Option Int) : Nat → Int → Option Int
  | 0, _ => none
  | n + 1, x2 =>
    if w32 (M0 (100 + 20) 13) ≤ w32 x2 then (k x2) else (ob (gA 24 M0 26 x2) fun v1 => if w32 v1 ≤ 0 then (jn (x2 + 1) fun v2 => f_X0_roadLeftFrom_L2 N M0 b1 k n v2) else (if w32 b1 = (-1) then (some x2) else (ob (gA 25 M0 (100 + 0) x2) fun v3 => if ¬ w32 v3 = w32 b1 then (jn (x2 + 1) fun v4 => f_X0_roadLeftFrom_L2 N M0 b1 k n v4) else (some x2))))
def f_X0_roadLeftFrom (N : Nat) (M0 : RM) (a1 : Int) : Option Int :=
  f_X0_roadLeftFrom_L2 N M0 a1 (fun (v5 : Int) => some (-5)) N 0
theorem hd_X0_roadLeftFrom : yX0_roadLeftFrom.cls = RX0 ∧ yX0_roadLeftFrom.cls ≠ "java/lang/invoke/MethodHandle" ∧ yX0_roadLeftFrom.cls ≠ "java/lang/invoke/VarHandle" ∧ (parseMethodDescriptor yX0_roadLeftFrom.desc).map (fun d => d.parameters.length) = some 1 := by decide +kernel
theorem wl_X0_roadLeftFrom_2 {p : Program} {l : Launch} {e : Env} {s : State} {m : MethodId} {args : Array Value} {below : List Frame} {meth : Method} {c : Code} {G : GG} {ad : Nat → Nat} {M0 : RM} (X : CX p s m args meth c cX0_roadLeftFrom 3 RX0 (some .int) G) {N : Nat} {b1 : Int} {k : Int → Option Int} {out : Int} : ∀ (n : Nat) (x2 : Int) (hp0 : HP) (H : Heap) (locs : List Loc) (ls : Array Slot) (hE : f_X0_roadLeftFrom_L2 N M0 b1 k n x2 = some out) (hX : XR G ad hp0 M0 H locs) (hl : lv_has ls 3 [(0, .ref (ad 40)), (1, vI b1), (2, vI x2)]) (hk : ∀ (x2 : Int) (hp0 : HP) (H : Heap) (locs : List Loc) (ls : Array Slot), XR G ad hp0 M0 H locs → lv_has ls 3 [(0, .ref (ad 40)), (1, vI b1), (2, vI x2)] → k x2 = some out → W p l e (rmA 0 0 0) s m args below meth c H locs 0 0 (QX below G ad args s 0 0 (Zd (some (vI out)) M0)) (F0 m 48 ls [])), W p l e (rmA 0 0 0) s m args below meth c H locs 0 0 (QX below G ad args s 0 0 (Zd (some (vI out)) M0)) (F0 m 2 ls []) := by
  intro n
  induction n with
  | zero =>
    intro x2 hp0 H locs ls hE hX hl hk
    unfold f_X0_roadLeftFrom_L2 at hE
    cases hE
  | succ n ih =>
    intro x2 hp0 H locs ls hE hX hl hk
    unfold f_X0_roadLeftFrom_L2 at hE
    refine e_iload_n X hl 2 rfl dX0_roadLeftFrom_2 rfl ?_
    refine e_aload_n X hl 0 rfl dX0_roadLeftFrom_3 rfl ?_
    refine r_getR X hX.1 ck_X0 40 3 rfl rfl (by decide) q1228 rfl dX0_roadLeftFrom_4 ?_
    refine r_getNI X hX.1 ck_X1 (100 + 20) 13 (dn nb1 20 rfl) rfl (by decide) q685 rfl dX0_roadLeftFrom_7 ?_
    refine e_icmp_ge X (w32 x2) (w32 (M0 (100 + 20) 13)) rfl rfl hE dX0_roadLeftFrom_10 rfl (fun hE => ?_) (fun hE => ?_)
    · exact hk x2 _ _ _ _ hX (lv_sub hl [0, 1, 2] rfl) hE
    · refine e_aload_n X hl 0 rfl dX0_roadLeftFrom_13 rfl ?_
      refine r_getR X hX.1 ck_X0 40 26 rfl rfl (by decide) q1251 rfl dX0_roadLeftFrom_14 ?_
      refine e_iload_n X hl 2 rfl dX0_roadLeftFrom_17 rfl ?_
      refine r_iald X hX.1 26 rfl (Nat.le_of_ble_eq_true rfl) hE dX0_roadLeftFrom_18 (fun v1 hE => ?_)
      refine e_if_le X (w32 v1) rfl hE dX0_roadLeftFrom_19 rfl (fun hE => ?_) (fun hE => ?_)
      · refine e_iinc X hl 2 hE (fun v2 => [(2, vI v2), (0, .ref (ad 40)), (1, vI b1)]) rfl dX0_roadLeftFrom_42 (by decide) (fun _ => rfl) (fun v2 hE ls hl => ?_)
        refine e_goto X dX0_roadLeftFrom_45 rfl ?_
        exact ih v2 _ _ _ _ hE hX (lv_sub hl [1, 2, 0] rfl) hk
      · refine e_iload_n X hl 1 rfl dX0_roadLeftFrom_22 rfl ?_
        refine e_iconst X dX0_roadLeftFrom_23 ?_
        refine e_icmp_eq X (w32 b1) (-1) rfl (by decide) hE dX0_roadLeftFrom_24 rfl (fun hE => ?_) (fun hE => ?_)
        · refine e_iload_n X hl 2 rfl dX0_roadLeftFrom_40 rfl ?_
          cases hE
          exact x_zret X hX ⟨rfl, rfl⟩ rfl (Nat.le_of_ble_eq_true rfl) (Nat.le_of_ble_eq_true rfl) dX0_roadLeftFrom_41
        · refine e_aload_n X hl 0 rfl dX0_roadLeftFrom_27 rfl ?_
          refine r_getR X hX.1 ck_X0 40 3 rfl rfl (by decide) q1228 rfl dX0_roadLeftFrom_28 ?_
          refine r_getNR X hX.1 ck_X1 (100 + 20) 0 (dn nb1 20 rfl) rfl (by decide) q663 rfl dX0_roadLeftFrom_31 ?_
          refine e_iload_n X hl 2 rfl dX0_roadLeftFrom_34 rfl ?_
          refine r_iald X hX.1 (100 + 0) (dn nb1 0 rfl) (Nat.le_of_ble_eq_true rfl) hE dX0_roadLeftFrom_35 (fun v3 hE => ?_)
          refine e_iload_n X hl 1 rfl dX0_roadLeftFrom_36 rfl ?_
          refine e_icmp_ne X (w32 v3) (w32 b1) rfl rfl hE dX0_roadLeftFrom_37 rfl (fun hE => ?_) (fun hE => ?_)
          · refine e_iinc X hl 2 hE (fun v4 => [(2, vI v4), (0, .ref (ad 40)), (1, vI b1)]) rfl dX0_roadLeftFrom_42 (by decide) (fun _ => rfl) (fun v4 hE ls hl => ?_)
            refine e_goto X dX0_roadLeftFrom_45 rfl ?_
            exact ih v4 _ _ _ _ hE hX (lv_sub hl [1, 2, 0] rfl) hk
          · refine e_iload_n X hl 2 rfl dX0_roadLeftFrom_40 rfl ?_
            cases hE
            exact x_zret X hX ⟨rfl, rfl⟩ rfl (Nat.le_of_ble_eq_true rfl) (Nat.le_of_ble_eq_true rfl) dX0_roadLeftFrom_41
theorem wb_X0_roadLeftFrom {p : Program} {l : Launch} {e : Env} {s : State} {m : MethodId} {args : Array Value} {below : List Frame} {meth : Method} {c : Code} {G : GG} {ad : Nat → Nat} {M0 : RM} (X : CX p s m args meth c cX0_roadLeftFrom 3 RX0 (some .int) G) {N : Nat} {a1 : Int}  {out : Int} (hE : f_X0_roadLeftFrom N M0 a1 = some out) {H : Heap} {locs : List Loc} {ls : Array Slot} {hp0 : HP} (hX : XR G ad hp0 M0 H locs) (hl : lv_has ls 3 [(0, .ref (ad 40)), (1, vI a1)]) : W p l e (rmA 0 0 0) s m args below meth c H locs 0 0 (QX below G ad args s 0 0 (Zd (some (vI out)) M0)) (F0 m 0 ls []) := by
  unfold f_X0_roadLeftFrom at hE
  refine e_iconst X dX0_roadLeftFrom_0 ?_
  refine e_istore_n X hl [(2, vI 0), (0, .ref (ad 40)), (1, vI a1)] dX0_roadLeftFrom_1 rfl (by decide) rfl (fun ls hl => ?_)
  refine wl_X0_roadLeftFrom_2 X _ 0 _ _ _ _ hE hX (lv_sub hl [1, 2, 0] rfl) (fun v5 hp0 H locs ls hX hl hE => ?_)
  refine e_bipush X dX0_roadLeftFrom_48 (by decide) ?_
  cases hE
  exact x_zret (x := (-5)) X hX ⟨rfl, rfl⟩ rfl (Nat.le_of_ble_eq_true rfl) (Nat.le_of_ble_eq_true rfl) dX0_roadLeftFrom_50
theorem mx_X0_roadLeftFrom (l : Launch) (G : GG) (ad : Nat → Nat) {N : Nat} (M0 : RM) (a1 : Int)  {out : Int} (hE : f_X0_roadLeftFrom N M0 a1 = some out) : MX l yX0_roadLeftFrom (ws_ yX0_roadLeftFrom cX0_roadLeftFrom 3 (some .int)) 0 0 0 G ad [.ref (ad 40), vI a1] M0 (Zd (some (vI out)) M0) :=
  MX.of (by decide +kernel) (Nat.le_of_ble_eq_true rfl) rfl (fun p e s m below meth c ls hp0 X hX hl => wb_X0_roadLeftFrom X hE hX hl)
