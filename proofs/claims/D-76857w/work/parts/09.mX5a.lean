/-! the reference, walked: by program -/
set_option maxRecDepth 100000
/-- the reference's record: arrays by field, cell 40 the object -/
def dX5 : rw_D := fun c => match c with
  | 0 => some (.inl (0, 110))
  | 1 => some (.inl (1, 25))
  | 2 => some (.inl (0, 110))
  | 3 => some (.inl (1, 25))
  | 6 => some (.inl (0, 1320))
  | 7 => some (.inl (1, 300))
  | 9 => some (.inl (0, 120))
  | 11 => some (.inl (0, 240))
  | 12 => some (.inl (0, 4))
  | 13 => some (.inl (1, 120))
  | 14 => some (.inl (0, 25))
  | 15 => some (.inl (0, 8))
  | 16 => some (.inl (1, 8))
  | 17 => some (.inl (0, 8))
  | 18 => some (.inl (2, 8))
  | 21 => some (.inl (0, 100))
  | 22 => some (.inl (1, 25))
  | 23 => some (.inl (1, 8))
  | 26 => some (.inl (0, 110))
  | 27 => some (.inl (1, 25))
  | 30 => some (.inl (1, 99))
  | 31 => some (.inl (0, 99))
  | 32 => some (.inl (0, 8))
  | 33 => some (.inl (1, 64))
  | 34 => some (.inl (0, 64))
  | 37 => some (.inl (0, 25))
  | 39 => some (.inl (0, 480))
  | 40 => some (.inr (5, [(2, 0), (2, 1), (2, 2), (2, 3), (0, 0), (0, 0), (2, 6), (2, 7), (0, 0), (2, 9), (0, 0), (2, 11), (2, 12), (2, 13), (2, 14), (2, 15), (2, 16), (2, 17), (2, 18), (0, 0), (0, 0), (2, 21), (2, 22), (2, 23), (1, 0), (0, 0), (2, 26), (2, 27), (1, 0), (0, 0), (2, 30), (2, 31), (2, 32), (2, 33), (2, 34), (0, 0), (1, 0), (2, 37), (0, 0), (2, 39)]))
  | _ => none
def f_X5_pours_L3 (N : Nat) (b0 m0 : Nat) (b1 : Int) (b2 m2 : Nat) (b3 : Int) (k : RM → Int → Option RM) : Nat → RM → Int → Option RM
  | 0, _, _ => none
  | n + 1, M, x4 =>
    if 110 ≤ w32 x4 then (k M x4) else (ob (gA m0 M b0 (b1 + x4)) fun v1 => ob (sA m2 M b2 (b3 + x4) v1) fun M2 => jn (x4 + 1) fun v3 => f_X5_pours_L3 N b0 m0 b1 b2 m2 b3 k n M2 v3)
def f_X5_pours (N : Nat) (M : RM) (a1 n1 : Nat) (a2 : Int) (a3 n3 : Nat) (a4 : Int) : Option RM :=
  f_X5_pours_L3 N a1 n1 a2 a3 n3 a4 (fun (M4 : RM) (v5 : Int) => some M4) N M 0
theorem hd_X5_pours : yX5_pours.cls ≠ "java/lang/invoke/MethodHandle" ∧ yX5_pours.cls ≠ "java/lang/invoke/VarHandle" ∧ (parseMethodDescriptor yX5_pours.desc).map (fun d => d.parameters.length) = some 4 := by decide +kernel
theorem wl_X5_pours_3 {p : Program} {l : Launch} {e : Env} {s : State} {m : MethodId} {args : Array Value} {below : List Frame} {meth : Method} {c : Code} {G : GG} {ad : Nat → Nat} {hp0 : HP} (X : CX p s m args meth c cX5_pours 5 RX5 none G) {N : Nat} {b0 m0 : Nat} {b1 : Int} {b2 m2 : Nat} {b3 : Int}  (hb0 : dX5 b0 = some (.inl (0, m0))) (hm0 : m0 ≤ 100000000) (hb2 : dX5 b2 = some (.inl (0, m2))) (hm2 : m2 ≤ 100000000) {k : RM → Int → Option RM} {out : RM} : ∀ (n : Nat) (M : RM) (x4 : Int) (H : Heap) (locs : List Loc) (ls : Array Slot) (hE : f_X5_pours_L3 N b0 m0 b1 b2 m2 b3 k n M x4 = some out) (hM : RW G dX5 ad hp0 M H locs) (hl : lv_has ls 5 [(0, .ref (ad b0)), (1, vI b1), (2, .ref (ad b2)), (3, vI b3), (4, vI x4)]) (hk : ∀ (M : RM) (x4 : Int) (H : Heap) (locs : List Loc) (ls : Array Slot), RW G dX5 ad hp0 M H locs → lv_has ls 5 [(0, .ref (ad b0)), (1, vI b1), (2, .ref (ad b2)), (3, vI b3), (4, vI x4)] → k M x4 = some out → W p l e (rmD 0) s m args below meth c H locs 0 0 (QR below G dX5 ad hp0 args s none out) (F0 m 28 ls [])), W p l e (rmD 0) s m args below meth c H locs 0 0 (QR below G dX5 ad hp0 args s none out) (F0 m 3 ls []) := by
  intro n
  induction n with
  | zero =>
    intro M x4 H locs ls hE hM hl hk
    unfold f_X5_pours_L3 at hE
    cases hE
  | succ n ih =>
    intro M x4 H locs ls hE hM hl hk
    unfold f_X5_pours_L3 at hE
    refine e_iload X hl 4 rfl dX5_pours_3 ?_
    refine e_bipush X dX5_pours_5 (by decide) ?_
    refine e_icmp_ge X (w32 x4) 110 rfl (by decide) hE dX5_pours_7 rfl (fun hE => ?_) (fun hE => ?_)
    · exact hk M x4 _ _ _ hM (lv_sub hl [0, 1, 2, 3, 4] rfl) hE
    · refine e_aload_n X hl 2 rfl dX5_pours_10 rfl ?_
      refine e_iload_n X hl 3 rfl dX5_pours_11 rfl ?_
      refine e_iload X hl 4 rfl dX5_pours_12 ?_
      refine e_iadd X dX5_pours_14 ?_
      refine e_aload_n X hl 0 rfl dX5_pours_15 rfl ?_
      refine e_iload_n X hl 1 rfl dX5_pours_16 rfl ?_
      refine e_iload X hl 4 rfl dX5_pours_17 ?_
      refine e_iadd X dX5_pours_19 ?_
      refine r_iald X hM b0 hb0 hm0 hE dX5_pours_20 (fun v1 hE => ?_)
      refine r_iast X hM b2 hb2 hm2 hE dX5_pours_21 (fun M2 hE H locs hM => ?_)
      refine e_iinc X hl 4 hE (fun v3 => [(4, vI v3), (0, .ref (ad b0)), (1, vI b1), (2, .ref (ad b2)), (3, vI b3)]) rfl dX5_pours_22 (by decide) (fun _ => rfl) (fun v3 hE ls hl => ?_)
      refine e_goto X dX5_pours_25 rfl ?_
      exact ih M2 v3 _ _ _ hE hM (lv_sub hl [1, 2, 3, 4, 0] rfl) hk
theorem wb_X5_pours {p : Program} {l : Launch} {e : Env} {s : State} {m : MethodId} {args : Array Value} {below : List Frame} {meth : Method} {c : Code} {G : GG} {ad : Nat → Nat} {hp0 : HP} (X : CX p s m args meth c cX5_pours 5 RX5 none G) {N : Nat} {M : RM} {a1 n1 : Nat} {a2 : Int} {a3 n3 : Nat} {a4 : Int}  (ha1 : dX5 a1 = some (.inl (0, n1))) (hn1 : n1 ≤ 100000000) (ha3 : dX5 a3 = some (.inl (0, n3))) (hn3 : n3 ≤ 100000000) {out : RM} (hE : f_X5_pours N M a1 n1 a2 a3 n3 a4 = some out) {H : Heap} {locs : List Loc} {ls : Array Slot} (hM : RW G dX5 ad hp0 M H locs) (hl : lv_has ls 5 [(0, .ref (ad a1)), (1, vI a2), (2, .ref (ad a3)), (3, vI a4)]) : W p l e (rmD 0) s m args below meth c H locs 0 0 (QR below G dX5 ad hp0 args s none out) (F0 m 0 ls []) := by
  unfold f_X5_pours at hE
  refine e_iconst X dX5_pours_0 ?_
  refine e_istore X hl [(4, vI 0), (0, .ref (ad a1)), (1, vI a2), (2, .ref (ad a3)), (3, vI a4)] dX5_pours_1 (by decide) rfl (fun ls hl => ?_)
  refine wl_X5_pours_3 X ha1 hn1 ha3 hn3 _ M 0 _ _ _ hE hM (lv_sub hl [1, 2, 3, 4, 0] rfl) (fun M4 v5 H locs ls hM hl hE => ?_)
  cases hE
  exact r_vret X hM dX5_pours_28
theorem met_X5_pours (l : Launch) (G : GG) (ad : Nat → Nat) (hp0 : HP) {N : Nat} (M : RM) (a1 n1 : Nat) (a2 : Int) (a3 n3 : Nat) (a4 : Int) (ha1 : dX5 a1 = some (.inl (0, n1))) (hn1 : n1 ≤ 100000000) (ha3 : dX5 a3 = some (.inl (0, n3))) (hn3 : n3 ≤ 100000000) {out : RM} (hE : f_X5_pours N M a1 n1 a2 a3 n3 a4 = some out) : MR l yX5_pours (ws_ yX5_pours cX5_pours 5 none) 0 G dX5 ad hp0 [.ref (ad a1), vI a2, .ref (ad a3), vI a4] M none out :=
  MR.of (by decide) (Nat.le_of_ble_eq_true rfl) rfl (fun p e s m below meth c ls X hM hl => wb_X5_pours X ha1 hn1 ha3 hn3 hE hM hl)
def f_X5_poursCosts_L3 (N : Nat) (b0 m0 : Nat) (b1 : Int) (b2 m2 : Nat) (b3 : Int) (k : RM → Int → Option RM) : Nat → RM → Int → Option RM
  | 0, _, _ => none
  | n + 1, M, x4 =>
    if 25 ≤ w32 x4 then (k M x4) else (ob (gA m0 M b0 (b1 + x4)) fun v1 => ob (sA m2 M b2 (b3 + x4) v1) fun M2 => jn (x4 + 1) fun v3 => f_X5_poursCosts_L3 N b0 m0 b1 b2 m2 b3 k n M2 v3)
def f_X5_poursCosts (N : Nat) (M : RM) (a1 n1 : Nat) (a2 : Int) (a3 n3 : Nat) (a4 : Int) : Option RM :=
  f_X5_poursCosts_L3 N a1 n1 a2 a3 n3 a4 (fun (M4 : RM) (v5 : Int) => some M4) N M 0
theorem hd_X5_poursCosts : yX5_poursCosts.cls ≠ "java/lang/invoke/MethodHandle" ∧ yX5_poursCosts.cls ≠ "java/lang/invoke/VarHandle" ∧ (parseMethodDescriptor yX5_poursCosts.desc).map (fun d => d.parameters.length) = some 4 := by decide +kernel
theorem wl_X5_poursCosts_3 {p : Program} {l : Launch} {e : Env} {s : State} {m : MethodId} {args : Array Value} {below : List Frame} {meth : Method} {c : Code} {G : GG} {ad : Nat → Nat} {hp0 : HP} (X : CX p s m args meth c cX5_poursCosts 5 RX5 none G) {N : Nat} {b0 m0 : Nat} {b1 : Int} {b2 m2 : Nat} {b3 : Int}  (hb0 : dX5 b0 = some (.inl (1, m0))) (hm0 : m0 ≤ 100000000) (hb2 : dX5 b2 = some (.inl (1, m2))) (hm2 : m2 ≤ 100000000) {k : RM → Int → Option RM} {out : RM} : ∀ (n : Nat) (M : RM) (x4 : Int) (H : Heap) (locs : List Loc) (ls : Array Slot) (hE : f_X5_poursCosts_L3 N b0 m0 b1 b2 m2 b3 k n M x4 = some out) (hM : RW G dX5 ad hp0 M H locs) (hl : lv_has ls 5 [(0, .ref (ad b0)), (1, vI b1), (2, .ref (ad b2)), (3, vI b3), (4, vI x4)]) (hk : ∀ (M : RM) (x4 : Int) (H : Heap) (locs : List Loc) (ls : Array Slot), RW G dX5 ad hp0 M H locs → lv_has ls 5 [(0, .ref (ad b0)), (1, vI b1), (2, .ref (ad b2)), (3, vI b3), (4, vI x4)] → k M x4 = some out → W p l e (rmD 0) s m args below meth c H locs 0 0 (QR below G dX5 ad hp0 args s none out) (F0 m 28 ls [])), W p l e (rmD 0) s m args below meth c H locs 0 0 (QR below G dX5 ad hp0 args s none out) (F0 m 3 ls []) := by
  intro n
  induction n with
  | zero =>
    intro M x4 H locs ls hE hM hl hk
    unfold f_X5_poursCosts_L3 at hE
    cases hE
  | succ n ih =>
    intro M x4 H locs ls hE hM hl hk
    unfold f_X5_poursCosts_L3 at hE
    refine e_iload X hl 4 rfl dX5_poursCosts_3 ?_
    refine e_bipush X dX5_poursCosts_5 (by decide) ?_
    refine e_icmp_ge X (w32 x4) 25 rfl (by decide) hE dX5_poursCosts_7 rfl (fun hE => ?_) (fun hE => ?_)
    · exact hk M x4 _ _ _ hM (lv_sub hl [0, 1, 2, 3, 4] rfl) hE
    · refine e_aload_n X hl 2 rfl dX5_poursCosts_10 rfl ?_
      refine e_iload_n X hl 3 rfl dX5_poursCosts_11 rfl ?_
      refine e_iload X hl 4 rfl dX5_poursCosts_12 ?_
      refine e_iadd X dX5_poursCosts_14 ?_
      refine e_aload_n X hl 0 rfl dX5_poursCosts_15 rfl ?_
      refine e_iload_n X hl 1 rfl dX5_poursCosts_16 rfl ?_
      refine e_iload X hl 4 rfl dX5_poursCosts_17 ?_
      refine e_iadd X dX5_poursCosts_19 ?_
      refine r_lald X hM b0 hb0 hm0 hE dX5_poursCosts_20 (fun v1 hE => ?_)
      refine r_last X hM b2 hb2 hm2 hE dX5_poursCosts_21 (fun M2 hE H locs hM => ?_)
      refine e_iinc X hl 4 hE (fun v3 => [(4, vI v3), (0, .ref (ad b0)), (1, vI b1), (2, .ref (ad b2)), (3, vI b3)]) rfl dX5_poursCosts_22 (by decide) (fun _ => rfl) (fun v3 hE ls hl => ?_)
      refine e_goto X dX5_poursCosts_25 rfl ?_
      exact ih M2 v3 _ _ _ hE hM (lv_sub hl [1, 2, 3, 4, 0] rfl) hk
theorem wb_X5_poursCosts {p : Program} {l : Launch} {e : Env} {s : State} {m : MethodId} {args : Array Value} {below : List Frame} {meth : Method} {c : Code} {G : GG} {ad : Nat → Nat} {hp0 : HP} (X : CX p s m args meth c cX5_poursCosts 5 RX5 none G) {N : Nat} {M : RM} {a1 n1 : Nat} {a2 : Int} {a3 n3 : Nat} {a4 : Int}  (ha1 : dX5 a1 = some (.inl (1, n1))) (hn1 : n1 ≤ 100000000) (ha3 : dX5 a3 = some (.inl (1, n3))) (hn3 : n3 ≤ 100000000) {out : RM} (hE : f_X5_poursCosts N M a1 n1 a2 a3 n3 a4 = some out) {H : Heap} {locs : List Loc} {ls : Array Slot} (hM : RW G dX5 ad hp0 M H locs) (hl : lv_has ls 5 [(0, .ref (ad a1)), (1, vI a2), (2, .ref (ad a3)), (3, vI a4)]) : W p l e (rmD 0) s m args below meth c H locs 0 0 (QR below G dX5 ad hp0 args s none out) (F0 m 0 ls []) := by
  unfold f_X5_poursCosts at hE
  refine e_iconst X dX5_poursCosts_0 ?_
  refine e_istore X hl [(4, vI 0), (0, .ref (ad a1)), (1, vI a2), (2, .ref (ad a3)), (3, vI a4)] dX5_poursCosts_1 (by decide) rfl (fun ls hl => ?_)
  refine wl_X5_poursCosts_3 X ha1 hn1 ha3 hn3 _ M 0 _ _ _ hE hM (lv_sub hl [1, 2, 3, 4, 0] rfl) (fun M4 v5 H locs ls hM hl hE => ?_)
  cases hE
  exact r_vret X hM dX5_poursCosts_28
theorem met_X5_poursCosts (l : Launch) (G : GG) (ad : Nat → Nat) (hp0 : HP) {N : Nat} (M : RM) (a1 n1 : Nat) (a2 : Int) (a3 n3 : Nat) (a4 : Int) (ha1 : dX5 a1 = some (.inl (1, n1))) (hn1 : n1 ≤ 100000000) (ha3 : dX5 a3 = some (.inl (1, n3))) (hn3 : n3 ≤ 100000000) {out : RM} (hE : f_X5_poursCosts N M a1 n1 a2 a3 n3 a4 = some out) : MR l yX5_poursCosts (ws_ yX5_poursCosts cX5_poursCosts 5 none) 0 G dX5 ad hp0 [.ref (ad a1), vI a2, .ref (ad a3), vI a4] M none out :=
  MR.of (by decide) (Nat.le_of_ble_eq_true rfl) rfl (fun p e s m below meth c ls X hM hl => wb_X5_poursCosts X ha1 hn1 ha3 hn3 hE hM hl)
def f_X5_back (N : Nat) (M : RM)  : Option (Int × RM) :=
  if ¬ w32 (M 40 5) = 0 then (jn (up2 M 40 5 ((M 40 5) - 1)) fun M1 => ob (f_X5_pours N M1 6 1320 (110 * (M1 40 5)) 0 110 0) fun M2 => ob (f_X5_poursCosts N M2 7 300 (25 * (M2 40 5)) 1 25 0) fun M3 => some (M3 40 5, M3)) else (some ((-3), M))
theorem hd_X5_back : yX5_back.cls = RX5 ∧ yX5_back.cls ≠ "java/lang/invoke/MethodHandle" ∧ yX5_back.cls ≠ "java/lang/invoke/VarHandle" ∧ (parseMethodDescriptor yX5_back.desc).map (fun d => d.parameters.length) = some 0 := by decide +kernel
theorem wb_X5_back {p : Program} {l : Launch} {e : Env} {s : State} {m : MethodId} {args : Array Value} {below : List Frame} {meth : Method} {c : Code} {G : GG} {ad : Nat → Nat} {hp0 : HP} (X : CX p s m args meth c cX5_back 1 RX5 (some .int) G) {N : Nat} {M : RM}   {out : (Int × RM)} (hE : f_X5_back N M = some out) {H : Heap} {locs : List Loc} {ls : Array Slot} (hM : RW G dX5 ad hp0 M H locs) (hl : lv_has ls 1 [(0, .ref (ad 40))]) : W p l e (rmD 1) s m args below meth c H locs 0 0 (QR below G dX5 ad hp0 args s (some (vI out.1)) out.2) (F0 m 0 ls []) := by
  unfold f_X5_back at hE
  refine e_aload_n X hl 0 rfl dX5_back_0 rfl ?_
  refine r_getI X hM ck_X5 40 5 rfl rfl (by decide) q3039 rfl dX5_back_1 ?_
  refine e_if_ne X (w32 (M 40 5)) rfl hE dX5_back_4 rfl (fun hE => ?_) (fun hE => ?_)
  · refine e_aload_n X hl 0 rfl dX5_back_10 rfl ?_
    refine e_dup X dX5_back_11 rfl ?_
    refine r_getI X hM ck_X5 40 5 rfl rfl (by decide) q3039 rfl dX5_back_12 ?_
    refine e_iconst X dX5_back_15 ?_
    refine e_isub X dX5_back_16 ?_
    refine r_putI X hM ck_X5 40 5 rfl rfl (by decide) q3039 rfl rfl hE rfl dX5_back_17 (fun M1 hE H locs hM => ?_)
    refine e_aload_n X hl 0 rfl dX5_back_20 rfl ?_
    refine r_getR X hM ck_X5 40 6 rfl rfl (by decide) q3040 rfl dX5_back_21 ?_
    refine e_bipush X dX5_back_24 (by decide) ?_
    refine e_aload_n X hl 0 rfl dX5_back_26 rfl ?_
    refine r_getI X hM ck_X5 40 5 rfl rfl (by decide) q3039 rfl dX5_back_27 ?_
    refine e_imul X dX5_back_30 ?_
    refine e_aload_n X hl 0 rfl dX5_back_31 rfl ?_
    refine r_getR X hM ck_X5 40 0 rfl rfl (by decide) q3034 rfl dX5_back_32 ?_
    refine e_iconst X dX5_back_35 ?_
    obtain ⟨M2, h, hE⟩ := ob_some hE
    refine r_callS0 X hM (rest := []) (met_X5_pours l G ad hp0 M1 6 1320 (110 * (M1 40 5)) 0 110 0 rfl (Nat.le_of_ble_eq_true rfl) rfl (Nat.le_of_ble_eq_true rfl) h) (va_cwS 4 X.ht (lw_S q3160 q3161 q170 q3162) rfl rfl rfl hd_X5_pours (cxR (by decide) (by decide))) rfl hl.1 rfl (Nat.le_of_ble_eq_true rfl) dX5_back_36 ⟨Nat.le_refl _, Nat.le_refl _⟩ (fun H locs hM => ?_)
    refine e_aload_n X hl 0 rfl dX5_back_39 rfl ?_
    refine r_getR X hM ck_X5 40 7 rfl rfl (by decide) q3041 rfl dX5_back_40 ?_
    refine e_bipush X dX5_back_43 (by decide) ?_
    refine e_aload_n X hl 0 rfl dX5_back_45 rfl ?_
    refine r_getI X hM ck_X5 40 5 rfl rfl (by decide) q3039 rfl dX5_back_46 ?_
    refine e_imul X dX5_back_49 ?_
    refine e_aload_n X hl 0 rfl dX5_back_50 rfl ?_
    refine r_getR X hM ck_X5 40 1 rfl rfl (by decide) q3035 rfl dX5_back_51 ?_
    refine e_iconst X dX5_back_54 ?_
    obtain ⟨M3, h, hE⟩ := ob_some hE
    refine r_callS0 X hM (rest := []) (met_X5_poursCosts l G ad hp0 M2 7 300 (25 * (M2 40 5)) 1 25 0 rfl (Nat.le_of_ble_eq_true rfl) rfl (Nat.le_of_ble_eq_true rfl) h) (va_cwS 4 X.ht (lw_S q3163 q3164 q170 q3165) rfl rfl rfl hd_X5_poursCosts (cxR (by decide) (by decide))) rfl hl.1 rfl (Nat.le_of_ble_eq_true rfl) dX5_back_55 ⟨Nat.le_refl _, Nat.le_refl _⟩ (fun H locs hM => ?_)
    refine e_aload_n X hl 0 rfl dX5_back_58 rfl ?_
    refine r_getI X hM ck_X5 40 5 rfl rfl (by decide) q3039 rfl dX5_back_59 ?_
    cases hE
    exact r_zret X hM rfl dX5_back_62
  · refine e_bipush X dX5_back_7 (by decide) ?_
    cases hE
    exact r_zret (x := (-3)) X hM rfl dX5_back_9
theorem met_X5_back (l : Launch) (G : GG) (ad : Nat → Nat) (hp0 : HP) {N : Nat} (M : RM)   {out : (Int × RM)} (hE : f_X5_back N M = some out) : MR l yX5_back (ws_ yX5_back cX5_back 1 (some .int)) 1 G dX5 ad hp0 [.ref (ad 40)] M (some (vI out.1)) out.2 :=
  MR.of (by decide) (Nat.le_of_ble_eq_true rfl) rfl (fun p e s m below meth c ls X hM hl => wb_X5_back X hE hM hl)
def f_X5_in (M0 : RM) (a1 : Int) (a2 : Int) (a3 : Int) : Option Int :=
  if w64 a1 < w64 a2 then (some 0) else (if w64 a3 < w64 a1 then (some 0) else (some 1))
theorem hd_X5_in : yX5_in.cls ≠ "java/lang/invoke/MethodHandle" ∧ yX5_in.cls ≠ "java/lang/invoke/VarHandle" ∧ (parseMethodDescriptor yX5_in.desc).map (fun d => d.parameters.length) = some 3 := by decide +kernel
theorem wb_X5_in {p : Program} {l : Launch} {e : Env} {s : State} {m : MethodId} {args : Array Value} {below : List Frame} {meth : Method} {c : Code} {G : GG} {ad : Nat → Nat} {hp0 : HP} {M0 : RM} (X : CX p s m args meth c cX5_in 6 RX5 (some .boolean) G) {a1 : Int} {a2 : Int} {a3 : Int}   {out : Int} (hE : f_X5_in M0 a1 a2 a3 = some out) {H : Heap} {locs : List Loc} {ls : Array Slot} (hM : RW G dX5 ad hp0 M0 H locs) (hl : lv_has ls 6 [(0, vL a1), (2, vL a2), (4, vL a3)]) : W p l e (rmD 0) s m args below meth c H locs 0 0 (QR below G dX5 ad hp0 args s (some (vI out)) M0) (F0 m 0 ls []) := by
  unfold f_X5_in at hE
  refine e_lload_n X hl 0 rfl dX5_in_0 rfl ?_
  refine e_lload_n X hl 1 rfl dX5_in_1 rfl ?_
  refine e_lcmp_lt X (w64 a1) (w64 a2) rfl rfl hE dX5_in_2 dX5_in_3 rfl (fun hE => ?_) (fun hE => ?_)
  · refine e_iconst X dX5_in_17 ?_
    cases hE
    exact r_zret (x := 0) X hM rfl dX5_in_18
  · refine e_lload_n X hl 0 rfl dX5_in_6 rfl ?_
    refine e_lload X hl 2 rfl dX5_in_7 ?_
    refine e_lcmp_gt X (w64 a1) (w64 a3) rfl rfl hE dX5_in_9 dX5_in_10 rfl (fun hE => ?_) (fun hE => ?_)
    · refine e_iconst X dX5_in_17 ?_
      cases hE
      exact r_zret (x := 0) X hM rfl dX5_in_18
    · refine e_iconst X dX5_in_13 ?_
      refine e_goto X dX5_in_14 rfl ?_
      cases hE
      exact r_zret (x := 1) X hM rfl dX5_in_18
theorem met_X5_in (l : Launch) (G : GG) (ad : Nat → Nat) (hp0 : HP) (M0 : RM) (a1 : Int) (a2 : Int) (a3 : Int)  {out : Int} (hE : f_X5_in M0 a1 a2 a3 = some out) : MR l yX5_in (ws_ yX5_in cX5_in 6 (some .boolean)) 0 G dX5 ad hp0 [vL a1, vL a2, vL a3] M0 (some (vI out)) M0 :=
  MR.of (by decide) (Nat.le_of_ble_eq_true rfl) rfl (fun p e s m below meth c ls X hM hl => wb_X5_in X hE hM hl)
def f_X5_keeps_L11 (N : Nat)  (k : RM → Int → Option RM) : Nat → RM → Int → Option RM
  | 0, _, _ => none
  | n + 1, M, x1 =>
    if 1210 ≤ w32 x1 then (k M x1) else (ob (gA 1320 M 6 (x1 + 110)) fun v6 => ob (sA 1320 M 6 x1 v6) fun M7 => jn (x1 + 1) fun v8 => f_X5_keeps_L11 N  k n M7 v8)
def f_X5_keeps_L41 (N : Nat)  (k : RM → Int → Option RM) : Nat → RM → Int → Option RM
  | 0, _, _ => none
  | n + 1, M, x1 =>
    if 275 ≤ w32 x1 then (k M x1) else (ob (gA 300 M 7 (x1 + 25)) fun v11 => ob (sA 300 M 7 x1 v11) fun M12 => jn (x1 + 1) fun v13 => f_X5_keeps_L41 N  k n M12 v13)
def f_X5_keeps (N : Nat) (M : RM)  : Option RM :=
  jn (fun (M2 : RM) => ob (f_X5_pours N M2 0 110 0 6 1320 (110 * (M2 40 5))) fun M3 => ob (f_X5_poursCosts N M3 1 25 0 7 300 (25 * (M3 40 5))) fun M4 => jn (up2 M4 40 5 ((M4 40 5) + 1)) fun M5 => some M5) fun kj1 => if ¬ w32 (M 40 5) = 12 then (kj1 M) else (f_X5_keeps_L11 N  (fun (M9 : RM) (v10 : Int) => f_X5_keeps_L41 N  (fun (M14 : RM) (v15 : Int) => jn (up2 M14 40 5 ((M14 40 5) - 1)) fun M16 => kj1 M16) N M9 0) N M 0)
theorem hd_X5_keeps : yX5_keeps.cls = RX5 ∧ yX5_keeps.cls ≠ "java/lang/invoke/MethodHandle" ∧ yX5_keeps.cls ≠ "java/lang/invoke/VarHandle" ∧ (parseMethodDescriptor yX5_keeps.desc).map (fun d => d.parameters.length) = some 0 := by decide +kernel
theorem wl_X5_keeps_11 {p : Program} {l : Launch} {e : Env} {s : State} {m : MethodId} {args : Array Value} {below : List Frame} {meth : Method} {c : Code} {G : GG} {ad : Nat → Nat} {hp0 : HP} (X : CX p s m args meth c cX5_keeps 2 RX5 none G) {N : Nat}   {k : RM → Int → Option RM} {out : RM} : ∀ (n : Nat) (M : RM) (x1 : Int) (H : Heap) (locs : List Loc) (ls : Array Slot) (hE : f_X5_keeps_L11 N  k n M x1 = some out) (hM : RW G dX5 ad hp0 M H locs) (hl : lv_has ls 2 [(0, .ref (ad 40)), (1, vI x1)]) (hk : ∀ (M : RM) (x1 : Int) (H : Heap) (locs : List Loc) (ls : Array Slot), RW G dX5 ad hp0 M H locs → lv_has ls 2 [(0, .ref (ad 40)), (1, vI x1)] → k M x1 = some out → W p l e (rmD 1) s m args below meth c H locs 0 0 (QR below G dX5 ad hp0 args s none out) (F0 m 39 ls [])), W p l e (rmD 1) s m args below meth c H locs 0 0 (QR below G dX5 ad hp0 args s none out) (F0 m 11 ls []) := by
  intro n
  induction n with
  | zero =>
    intro M x1 H locs ls hE hM hl hk
    unfold f_X5_keeps_L11 at hE
    cases hE
  | succ n ih =>
    intro M x1 H locs ls hE hM hl hk
    unfold f_X5_keeps_L11 at hE
    refine e_iload_n X hl 1 rfl dX5_keeps_11 rfl ?_
    refine e_sipush X dX5_keeps_12 (by decide) ?_
    refine e_icmp_ge X (w32 x1) 1210 rfl (by decide) hE dX5_keeps_15 rfl (fun hE => ?_) (fun hE => ?_)
    · exact hk M x1 _ _ _ hM (lv_sub hl [0, 1] rfl) hE
    · refine e_aload_n X hl 0 rfl dX5_keeps_18 rfl ?_
      refine r_getR X hM ck_X5 40 6 rfl rfl (by decide) q3040 rfl dX5_keeps_19 ?_
      refine e_iload_n X hl 1 rfl dX5_keeps_22 rfl ?_
      refine e_aload_n X hl 0 rfl dX5_keeps_23 rfl ?_
      refine r_getR X hM ck_X5 40 6 rfl rfl (by decide) q3040 rfl dX5_keeps_24 ?_
      refine e_iload_n X hl 1 rfl dX5_keeps_27 rfl ?_
      refine e_bipush X dX5_keeps_28 (by decide) ?_
      refine e_iadd X dX5_keeps_30 ?_
      refine r_iald X hM 6 rfl (Nat.le_of_ble_eq_true rfl) hE dX5_keeps_31 (fun v6 hE => ?_)
      refine r_iast X hM 6 rfl (Nat.le_of_ble_eq_true rfl) hE dX5_keeps_32 (fun M7 hE H locs hM => ?_)
      refine e_iinc X hl 1 hE (fun v8 => [(1, vI v8), (0, .ref (ad 40))]) rfl dX5_keeps_33 (by decide) (fun _ => rfl) (fun v8 hE ls hl => ?_)
      refine e_goto X dX5_keeps_36 rfl ?_
      exact ih M7 v8 _ _ _ hE hM (lv_sub hl [1, 0] rfl) hk
theorem wl_X5_keeps_41 {p : Program} {l : Launch} {e : Env} {s : State} {m : MethodId} {args : Array Value} {below : List Frame} {meth : Method} {c : Code} {G : GG} {ad : Nat → Nat} {hp0 : HP} (X : CX p s m args meth c cX5_keeps 2 RX5 none G) {N : Nat}   {k : RM → Int → Option RM} {out : RM} : ∀ (n : Nat) (M : RM) (x1 : Int) (H : Heap) (locs : List Loc) (ls : Array Slot) (hE : f_X5_keeps_L41 N  k n M x1 = some out) (hM : RW G dX5 ad hp0 M H locs) (hl : lv_has ls 2 [(0, .ref (ad 40)), (1, vI x1)]) (hk : ∀ (M : RM) (x1 : Int) (H : Heap) (locs : List Loc) (ls : Array Slot), RW G dX5 ad hp0 M H locs → lv_has ls 2 [(0, .ref (ad 40)), (1, vI x1)] → k M x1 = some out → W p l e (rmD 1) s m args below meth c H locs 0 0 (QR below G dX5 ad hp0 args s none out) (F0 m 69 ls [])), W p l e (rmD 1) s m args below meth c H locs 0 0 (QR below G dX5 ad hp0 args s none out) (F0 m 41 ls []) := by
  intro n
  induction n with
  | zero =>
    intro M x1 H locs ls hE hM hl hk
    unfold f_X5_keeps_L41 at hE
    cases hE
  | succ n ih =>
    intro M x1 H locs ls hE hM hl hk
    unfold f_X5_keeps_L41 at hE
    refine e_iload_n X hl 1 rfl dX5_keeps_41 rfl ?_
    refine e_sipush X dX5_keeps_42 (by decide) ?_
    refine e_icmp_ge X (w32 x1) 275 rfl (by decide) hE dX5_keeps_45 rfl (fun hE => ?_) (fun hE => ?_)
    · exact hk M x1 _ _ _ hM (lv_sub hl [0, 1] rfl) hE
    · refine e_aload_n X hl 0 rfl dX5_keeps_48 rfl ?_
      refine r_getR X hM ck_X5 40 7 rfl rfl (by decide) q3041 rfl dX5_keeps_49 ?_
      refine e_iload_n X hl 1 rfl dX5_keeps_52 rfl ?_
      refine e_aload_n X hl 0 rfl dX5_keeps_53 rfl ?_
      refine r_getR X hM ck_X5 40 7 rfl rfl (by decide) q3041 rfl dX5_keeps_54 ?_
      refine e_iload_n X hl 1 rfl dX5_keeps_57 rfl ?_
      refine e_bipush X dX5_keeps_58 (by decide) ?_
      refine e_iadd X dX5_keeps_60 ?_
      refine r_lald X hM 7 rfl (Nat.le_of_ble_eq_true rfl) hE dX5_keeps_61 (fun v11 hE => ?_)
      refine r_last X hM 7 rfl (Nat.le_of_ble_eq_true rfl) hE dX5_keeps_62 (fun M12 hE H locs hM => ?_)
      refine e_iinc X hl 1 hE (fun v13 => [(1, vI v13), (0, .ref (ad 40))]) rfl dX5_keeps_63 (by decide) (fun _ => rfl) (fun v13 hE ls hl => ?_)
      refine e_goto X dX5_keeps_66 rfl ?_
      exact ih M12 v13 _ _ _ hE hM (lv_sub hl [1, 0] rfl) hk
theorem wb_X5_keeps {p : Program} {l : Launch} {e : Env} {s : State} {m : MethodId} {args : Array Value} {below : List Frame} {meth : Method} {c : Code} {G : GG} {ad : Nat → Nat} {hp0 : HP} (X : CX p s m args meth c cX5_keeps 2 RX5 none G) {N : Nat} {M : RM}   {out : RM} (hE : f_X5_keeps N M = some out) {H : Heap} {locs : List Loc} {ls : Array Slot} (hM : RW G dX5 ad hp0 M H locs) (hl : lv_has ls 2 [(0, .ref (ad 40))]) : W p l e (rmD 1) s m args below meth c H locs 0 0 (QR below G dX5 ad hp0 args s none out) (F0 m 0 ls []) := by
  unfold f_X5_keeps at hE
  refine e_aload_n X hl 0 rfl dX5_keeps_0 rfl ?_
  refine r_getI X hM ck_X5 40 5 rfl rfl (by decide) q3039 rfl dX5_keeps_1 ?_
  refine e_bipush X dX5_keeps_4 (by decide) ?_
  obtain ⟨kj1, hkj1, hE⟩ := jn_ex hE
  have hjkj1 : ∀ (M2 : RM) (H : Heap) (locs : List Loc) (ls : Array Slot), RW G dX5 ad hp0 M2 H locs → lv_has ls 2 [(0, .ref (ad 40))] → kj1 M2 = some out → W p l e (rmD 1) s m args below meth c H locs 0 0 (QR below G dX5 ad hp0 args s none out) (F0 m 79 ls []) := by
    intro M2 H locs ls hM hl hE
    subst hkj1
    refine e_aload_n X hl 0 rfl dX5_keeps_79 rfl ?_
    refine r_getR X hM ck_X5 40 0 rfl rfl (by decide) q3034 rfl dX5_keeps_80 ?_
    refine e_iconst X dX5_keeps_83 ?_
    refine e_aload_n X hl 0 rfl dX5_keeps_84 rfl ?_
    refine r_getR X hM ck_X5 40 6 rfl rfl (by decide) q3040 rfl dX5_keeps_85 ?_
    refine e_bipush X dX5_keeps_88 (by decide) ?_
    refine e_aload_n X hl 0 rfl dX5_keeps_90 rfl ?_
    refine r_getI X hM ck_X5 40 5 rfl rfl (by decide) q3039 rfl dX5_keeps_91 ?_
    refine e_imul X dX5_keeps_94 ?_
    obtain ⟨M3, h, hE⟩ := ob_some hE
    refine r_callS0 X hM (rest := []) (met_X5_pours l G ad hp0 M2 0 110 0 6 1320 (110 * (M2 40 5)) rfl (Nat.le_of_ble_eq_true rfl) rfl (Nat.le_of_ble_eq_true rfl) h) (va_cwS 4 X.ht (lw_S q3160 q3161 q170 q3162) rfl rfl rfl hd_X5_pours (cxR (by decide) (by decide))) rfl hl.1 rfl (Nat.le_of_ble_eq_true rfl) dX5_keeps_95 ⟨Nat.le_refl _, Nat.le_refl _⟩ (fun H locs hM => ?_)
    refine e_aload_n X hl 0 rfl dX5_keeps_98 rfl ?_
    refine r_getR X hM ck_X5 40 1 rfl rfl (by decide) q3035 rfl dX5_keeps_99 ?_
    refine e_iconst X dX5_keeps_102 ?_
    refine e_aload_n X hl 0 rfl dX5_keeps_103 rfl ?_
    refine r_getR X hM ck_X5 40 7 rfl rfl (by decide) q3041 rfl dX5_keeps_104 ?_
    refine e_bipush X dX5_keeps_107 (by decide) ?_
    refine e_aload_n X hl 0 rfl dX5_keeps_109 rfl ?_
    refine r_getI X hM ck_X5 40 5 rfl rfl (by decide) q3039 rfl dX5_keeps_110 ?_
    refine e_imul X dX5_keeps_113 ?_
    obtain ⟨M4, h, hE⟩ := ob_some hE
    refine r_callS0 X hM (rest := []) (met_X5_poursCosts l G ad hp0 M3 1 25 0 7 300 (25 * (M3 40 5)) rfl (Nat.le_of_ble_eq_true rfl) rfl (Nat.le_of_ble_eq_true rfl) h) (va_cwS 4 X.ht (lw_S q3163 q3164 q170 q3165) rfl rfl rfl hd_X5_poursCosts (cxR (by decide) (by decide))) rfl hl.1 rfl (Nat.le_of_ble_eq_true rfl) dX5_keeps_114 ⟨Nat.le_refl _, Nat.le_refl _⟩ (fun H locs hM => ?_)
    refine e_aload_n X hl 0 rfl dX5_keeps_117 rfl ?_
    refine e_dup X dX5_keeps_118 rfl ?_
    refine r_getI X hM ck_X5 40 5 rfl rfl (by decide) q3039 rfl dX5_keeps_119 ?_
    refine e_iconst X dX5_keeps_122 ?_
    refine e_iadd X dX5_keeps_123 ?_
    refine r_putI X hM ck_X5 40 5 rfl rfl (by decide) q3039 rfl rfl hE rfl dX5_keeps_124 (fun M5 hE H locs hM => ?_)
    cases hE
    exact r_vret X hM dX5_keeps_127
  refine e_icmp_ne X (w32 (M 40 5)) 12 rfl (by decide) hE dX5_keeps_6 rfl (fun hE => ?_) (fun hE => ?_)
  · exact hjkj1 M _ _ _ hM (lv_sub hl [0] rfl) hE
  · refine e_iconst X dX5_keeps_9 ?_
    refine e_istore_n X hl [(1, vI 0), (0, .ref (ad 40))] dX5_keeps_10 rfl (by decide) rfl (fun ls hl => ?_)
    refine wl_X5_keeps_11 X _ M 0 _ _ _ hE hM (lv_sub hl [1, 0] rfl) (fun M9 v10 H locs ls hM hl hE => ?_)
    refine e_iconst X dX5_keeps_39 ?_
    refine e_istore_n X hl [(1, vI 0), (0, .ref (ad 40))] dX5_keeps_40 rfl (by decide) rfl (fun ls hl => ?_)
    refine wl_X5_keeps_41 X _ M9 0 _ _ _ hE hM (lv_sub hl [1, 0] rfl) (fun M14 v15 H locs ls hM hl hE => ?_)
    refine e_aload_n X hl 0 rfl dX5_keeps_69 rfl ?_
    refine e_dup X dX5_keeps_70 rfl ?_
    refine r_getI X hM ck_X5 40 5 rfl rfl (by decide) q3039 rfl dX5_keeps_71 ?_
    refine e_iconst X dX5_keeps_74 ?_
    refine e_isub X dX5_keeps_75 ?_
    refine r_putI X hM ck_X5 40 5 rfl rfl (by decide) q3039 rfl rfl hE rfl dX5_keeps_76 (fun M16 hE H locs hM => ?_)
    exact hjkj1 M16 _ _ _ hM (lv_sub hl [0] rfl) hE
theorem met_X5_keeps (l : Launch) (G : GG) (ad : Nat → Nat) (hp0 : HP) {N : Nat} (M : RM)   {out : RM} (hE : f_X5_keeps N M = some out) : MR l yX5_keeps (ws_ yX5_keeps cX5_keeps 2 none) 1 G dX5 ad hp0 [.ref (ad 40)] M none out :=
  MR.of (by decide) (Nat.le_of_ble_eq_true rfl) rfl (fun p e s m below meth c ls X hM hl => wb_X5_keeps X hE hM hl)
def f_X5_towns_L30 (N : Nat) (b1 : Int) (b2 : Int) (k : RM → Int → Option (Int × RM)) : Nat → RM → Int → Option (Int × RM)
  | 0, _, _ => none
  | n + 1, M, x3 =>
    if 10 ≤ w32 x3 then (k M x3) else (ob (sA 110 M 0 x3 0) fun M4 => jn (x3 + 1) fun v5 => f_X5_towns_L30 N b1 b2 k n M4 v5)
def f_X5_towns (N : Nat) (M : RM) (a1 : Int) : Option (Int × RM) :=
  ob (f_X5_in M (w32 a1) 2 8) fun v1 => if ¬ w32 v1 = 0 then (ob (f_X5_keeps N M) fun M2 => ob (gA 110 M2 0 0) fun v3 => f_X5_towns_L30 N a1 v3 (fun (M6 : RM) (v7 : Int) => ob (sA 110 M6 0 0 a1) fun M8 => some (v3, M8)) N M2 0) else (some ((-2), M))
theorem hd_X5_towns : yX5_towns.cls = RX5 ∧ yX5_towns.cls ≠ "java/lang/invoke/MethodHandle" ∧ yX5_towns.cls ≠ "java/lang/invoke/VarHandle" ∧ (parseMethodDescriptor yX5_towns.desc).map (fun d => d.parameters.length) = some 1 := by decide +kernel
theorem wl_X5_towns_30 {p : Program} {l : Launch} {e : Env} {s : State} {m : MethodId} {args : Array Value} {below : List Frame} {meth : Method} {c : Code} {G : GG} {ad : Nat → Nat} {hp0 : HP} (X : CX p s m args meth c cX5_towns 4 RX5 (some .int) G) {N : Nat} {b1 : Int} {b2 : Int}  {k : RM → Int → Option (Int × RM)} {out : (Int × RM)} : ∀ (n : Nat) (M : RM) (x3 : Int) (H : Heap) (locs : List Loc) (ls : Array Slot) (hE : f_X5_towns_L30 N b1 b2 k n M x3 = some out) (hM : RW G dX5 ad hp0 M H locs) (hl : lv_has ls 4 [(0, .ref (ad 40)), (1, vI b1), (2, vI b2), (3, vI x3)]) (hk : ∀ (M : RM) (x3 : Int) (H : Heap) (locs : List Loc) (ls : Array Slot), RW G dX5 ad hp0 M H locs → lv_has ls 4 [(0, .ref (ad 40)), (1, vI b1), (2, vI b2), (3, vI x3)] → k M x3 = some out → W p l e (rmD 2) s m args below meth c H locs 0 0 (QR below G dX5 ad hp0 args s (some (vI out.1)) out.2) (F0 m 49 ls [])), W p l e (rmD 2) s m args below meth c H locs 0 0 (QR below G dX5 ad hp0 args s (some (vI out.1)) out.2) (F0 m 30 ls []) := by
  intro n
  induction n with
  | zero =>
    intro M x3 H locs ls hE hM hl hk
    unfold f_X5_towns_L30 at hE
    cases hE
  | succ n ih =>
    intro M x3 H locs ls hE hM hl hk
    unfold f_X5_towns_L30 at hE
    refine e_iload_n X hl 3 rfl dX5_towns_30 rfl ?_
    refine e_bipush X dX5_towns_31 (by decide) ?_
    refine e_icmp_ge X (w32 x3) 10 rfl (by decide) hE dX5_towns_33 rfl (fun hE => ?_) (fun hE => ?_)
    · exact hk M x3 _ _ _ hM (lv_sub hl [0, 1, 2, 3] rfl) hE
    · refine e_aload_n X hl 0 rfl dX5_towns_36 rfl ?_
      refine r_getR X hM ck_X5 40 0 rfl rfl (by decide) q3034 rfl dX5_towns_37 ?_
      refine e_iload_n X hl 3 rfl dX5_towns_40 rfl ?_
      refine e_iconst X dX5_towns_41 ?_
      refine r_iast X hM 0 rfl (Nat.le_of_ble_eq_true rfl) hE dX5_towns_42 (fun M4 hE H locs hM => ?_)
      refine e_iinc X hl 3 hE (fun v5 => [(3, vI v5), (0, .ref (ad 40)), (1, vI b1), (2, vI b2)]) rfl dX5_towns_43 (by decide) (fun _ => rfl) (fun v5 hE ls hl => ?_)
      refine e_goto X dX5_towns_46 rfl ?_
      exact ih M4 v5 _ _ _ hE hM (lv_sub hl [1, 2, 3, 0] rfl) hk
theorem wb_X5_towns {p : Program} {l : Launch} {e : Env} {s : State} {m : MethodId} {args : Array Value} {below : List Frame} {meth : Method} {c : Code} {G : GG} {ad : Nat → Nat} {hp0 : HP} (X : CX p s m args meth c cX5_towns 4 RX5 (some .int) G) {N : Nat} {M : RM} {a1 : Int}   {out : (Int × RM)} (hE : f_X5_towns N M a1 = some out) {H : Heap} {locs : List Loc} {ls : Array Slot} (hM : RW G dX5 ad hp0 M H locs) (hl : lv_has ls 4 [(0, .ref (ad 40)), (1, vI a1)]) : W p l e (rmD 2) s m args below meth c H locs 0 0 (QR below G dX5 ad hp0 args s (some (vI out.1)) out.2) (F0 m 0 ls []) := by
  unfold f_X5_towns at hE
  refine e_iload_n X hl 1 rfl dX5_towns_0 rfl ?_
  refine e_i2l X dX5_towns_1 ?_
  refine e_ldc2 X 2 q3170 (by decide) dX5_towns_2 ?_
  refine e_ldc2 X 8 q3171 (by decide) dX5_towns_5 ?_
  obtain ⟨v1, h, hE⟩ := ob_some hE
  refine r_callS1 X hM (rest := []) (met_X5_in l G ad hp0 M (w32 a1) 2 8 h) (va_cwS 3 X.ht (lw_S q3172 q3173 q170 q3174) rfl rfl rfl hd_X5_in (cxR (by decide) (by decide))) rfl hl.1 rfl (Nat.le_of_ble_eq_true rfl) dX5_towns_8 ⟨Nat.le_refl _, Nat.le_refl _⟩ (fun H locs hM => ?_)
  refine e_if_ne X (w32 v1) rfl hE dX5_towns_11 rfl (fun hE => ?_) (fun hE => ?_)
  · refine e_aload_n X hl 0 rfl dX5_towns_17 rfl ?_
    obtain ⟨M2, h, hE⟩ := ob_some hE
    refine r_callV0 X hM 40 rfl ck_X5 (rest := []) (met_X5_keeps l G ad hp0 M h) (cwV 0 X.ht (lw_V q3175 q3177 qs73 q170 q3178) rfl rfl rfl hd_X5_keeps (cxR (by decide) (by decide))) rfl hl.1 rfl (Nat.le_of_ble_eq_true rfl) dX5_towns_18 ⟨Nat.le_refl _, Nat.le_refl _⟩ (fun H locs hM => ?_)
    refine e_aload_n X hl 0 rfl dX5_towns_21 rfl ?_
    refine r_getR X hM ck_X5 40 0 rfl rfl (by decide) q3034 rfl dX5_towns_22 ?_
    refine e_iconst X dX5_towns_25 ?_
    refine r_iald X hM 0 rfl (Nat.le_of_ble_eq_true rfl) hE dX5_towns_26 (fun v3 hE => ?_)
    refine e_istore_n X hl [(2, vI v3), (0, .ref (ad 40)), (1, vI a1)] dX5_towns_27 rfl (by decide) rfl (fun ls hl => ?_)
    refine e_iconst X dX5_towns_28 ?_
    refine e_istore_n X hl [(3, vI 0), (2, vI v3), (0, .ref (ad 40)), (1, vI a1)] dX5_towns_29 rfl (by decide) rfl (fun ls hl => ?_)
    refine wl_X5_towns_30 X _ M2 0 _ _ _ hE hM (lv_sub hl [2, 3, 1, 0] rfl) (fun M6 v7 H locs ls hM hl hE => ?_)
    refine e_aload_n X hl 0 rfl dX5_towns_49 rfl ?_
    refine r_getR X hM ck_X5 40 0 rfl rfl (by decide) q3034 rfl dX5_towns_50 ?_
    refine e_iconst X dX5_towns_53 ?_
    refine e_iload_n X hl 1 rfl dX5_towns_54 rfl ?_
    refine r_iast X hM 0 rfl (Nat.le_of_ble_eq_true rfl) hE dX5_towns_55 (fun M8 hE H locs hM => ?_)
    refine e_iload_n X hl 2 rfl dX5_towns_56 rfl ?_
    cases hE
    exact r_zret X hM rfl dX5_towns_57
  · refine e_bipush X dX5_towns_14 (by decide) ?_
    cases hE
    exact r_zret (x := (-2)) X hM rfl dX5_towns_16
theorem met_X5_towns (l : Launch) (G : GG) (ad : Nat → Nat) (hp0 : HP) {N : Nat} (M : RM) (a1 : Int)  {out : (Int × RM)} (hE : f_X5_towns N M a1 = some out) : MR l yX5_towns (ws_ yX5_towns cX5_towns 4 (some .int)) 2 G dX5 ad hp0 [.ref (ad 40), vI a1] M (some (vI out.1)) out.2 :=
  MR.of (by decide) (Nat.le_of_ble_eq_true rfl) rfl (fun p e s m below meth c ls X hM hl => wb_X5_towns X hE hM hl)
def f_X5_towns_2 (M0 : RM)  : Option Int :=
  ob (gA 110 M0 0 0) fun v1 => some v1
theorem hd_X5_towns_2 : yX5_towns_2.cls = RX5 ∧ yX5_towns_2.cls ≠ "java/lang/invoke/MethodHandle" ∧ yX5_towns_2.cls ≠ "java/lang/invoke/VarHandle" ∧ (parseMethodDescriptor yX5_towns_2.desc).map (fun d => d.parameters.length) = some 0 := by decide +kernel
theorem wb_X5_towns_2 {p : Program} {l : Launch} {e : Env} {s : State} {m : MethodId} {args : Array Value} {below : List Frame} {meth : Method} {c : Code} {G : GG} {ad : Nat → Nat} {hp0 : HP} {M0 : RM} (X : CX p s m args meth c cX5_towns_2 1 RX5 (some .int) G)   {out : Int} (hE : f_X5_towns_2 M0 = some out) {H : Heap} {locs : List Loc} {ls : Array Slot} (hM : RW G dX5 ad hp0 M0 H locs) (hl : lv_has ls 1 [(0, .ref (ad 40))]) : W p l e (rmD 0) s m args below meth c H locs 0 0 (QR below G dX5 ad hp0 args s (some (vI out)) M0) (F0 m 0 ls []) := by
  unfold f_X5_towns_2 at hE
  refine e_aload_n X hl 0 rfl dX5_towns_2_0 rfl ?_
  refine r_getR X hM ck_X5 40 0 rfl rfl (by decide) q3034 rfl dX5_towns_2_1 ?_
  refine e_iconst X dX5_towns_2_4 ?_
  refine r_iald X hM 0 rfl (Nat.le_of_ble_eq_true rfl) hE dX5_towns_2_5 (fun v1 hE => ?_)
  cases hE
  exact r_zret X hM rfl dX5_towns_2_6
theorem met_X5_towns_2 (l : Launch) (G : GG) (ad : Nat → Nat) (hp0 : HP) (M0 : RM)   {out : Int} (hE : f_X5_towns_2 M0 = some out) : MR l yX5_towns_2 (ws_ yX5_towns_2 cX5_towns_2 1 (some .int)) 0 G dX5 ad hp0 [.ref (ad 40)] M0 (some (vI out)) M0 :=
  MR.of (by decide) (Nat.le_of_ble_eq_true rfl) rfl (fun p e s m below meth c ls X hM hl => wb_X5_towns_2 X hE hM hl)
def f_X5_isTown (M0 : RM) (a1 : Int) : Option Int :=
  ob (f_X5_towns_2 M0) fun v1 => ob (f_X5_in M0 (w32 a1) 0 (w32 (v1 - 1))) fun v2 => ob (tz v2) fun v3 => some v3
theorem hd_X5_isTown : yX5_isTown.cls = RX5 ∧ yX5_isTown.cls ≠ "java/lang/invoke/MethodHandle" ∧ yX5_isTown.cls ≠ "java/lang/invoke/VarHandle" ∧ (parseMethodDescriptor yX5_isTown.desc).map (fun d => d.parameters.length) = some 1 := by decide +kernel
theorem wb_X5_isTown {p : Program} {l : Launch} {e : Env} {s : State} {m : MethodId} {args : Array Value} {below : List Frame} {meth : Method} {c : Code} {G : GG} {ad : Nat → Nat} {hp0 : HP} {M0 : RM} (X : CX p s m args meth c cX5_isTown 2 RX5 (some .boolean) G) {a1 : Int}   {out : Int} (hE : f_X5_isTown M0 a1 = some out) {H : Heap} {locs : List Loc} {ls : Array Slot} (hM : RW G dX5 ad hp0 M0 H locs) (hl : lv_has ls 2 [(0, .ref (ad 40)), (1, vI a1)]) : W p l e (rmD 1) s m args below meth c H locs 0 0 (QR below G dX5 ad hp0 args s (some (vI out)) M0) (F0 m 0 ls []) := by
  unfold f_X5_isTown at hE
  refine e_iload_n X hl 1 rfl dX5_isTown_0 rfl ?_
  refine e_i2l X dX5_isTown_1 ?_
  refine e_lconst X 0 dX5_isTown_2 (by decide) ?_
  refine e_aload_n X hl 0 rfl dX5_isTown_3 rfl ?_
  obtain ⟨v1, h, hE⟩ := ob_some hE
  refine r_callV1 X hM 40 rfl ck_X5 (rest := [vL 0, vL (w32 a1)]) (met_X5_towns_2 l G ad hp0 M0 h) (cwV 0 X.ht (lw_V q3187 q3189 qs75 q170 q3190) rfl rfl rfl hd_X5_towns_2 (cxR (by decide) (by decide))) rfl hl.1 rfl (Nat.le_of_ble_eq_true rfl) dX5_isTown_4 ⟨Nat.le_refl _, Nat.le_refl _⟩ (fun H locs hM => ?_)
  refine e_iconst X dX5_isTown_7 ?_
  refine e_isub X dX5_isTown_8 ?_
  refine e_i2l X dX5_isTown_9 ?_
  obtain ⟨v2, h, hE⟩ := ob_some hE
  refine r_callS1 X hM (rest := []) (met_X5_in l G ad hp0 M0 (w32 a1) 0 (w32 (v1 - 1)) h) (va_cwS 3 X.ht (lw_S q3172 q3173 q170 q3174) rfl rfl rfl hd_X5_in (cxR (by decide) (by decide))) rfl hl.1 rfl (Nat.le_of_ble_eq_true rfl) dX5_isTown_10 ⟨Nat.le_refl _, Nat.le_refl _⟩ (fun H locs hM => ?_)
  obtain ⟨v3, hz, hE⟩ := ob_some hE
  have hn := nb_z hz
  have hz := (tz_some hz).2
  rw [hz] at hE
  cases hE
  exact r_zret X hM hn dX5_isTown_13
theorem met_X5_isTown (l : Launch) (G : GG) (ad : Nat → Nat) (hp0 : HP) (M0 : RM) (a1 : Int)  {out : Int} (hE : f_X5_isTown M0 a1 = some out) : MR l yX5_isTown (ws_ yX5_isTown cX5_isTown 2 (some .boolean)) 1 G dX5 ad hp0 [.ref (ad 40), vI a1] M0 (some (vI out)) M0 :=
  MR.of (by decide) (Nat.le_of_ble_eq_true rfl) rfl (fun p e s m below meth c ls X hM hl => wb_X5_isTown X hE hM hl)
def f_X5_supply (N : Nat) (M : RM) (a1 : Int) (a2 : Int) : Option (Int × RM) :=
  ob (f_X5_isTown M a1) fun v1 => if ¬ w32 v1 = 0 then (ob (f_X5_in M (w32 a2) (-99) 99) fun v2 => if ¬ w32 v2 = 0 then (ob (f_X5_keeps N M) fun M3 => ob (sA 110 M3 0 (2 + a1) a2) fun M4 => some (1, M4)) else (some ((-2), M))) else (some ((-1), M))
theorem hd_X5_supply : yX5_supply.cls = RX5 ∧ yX5_supply.cls ≠ "java/lang/invoke/MethodHandle" ∧ yX5_supply.cls ≠ "java/lang/invoke/VarHandle" ∧ (parseMethodDescriptor yX5_supply.desc).map (fun d => d.parameters.length) = some 2 := by decide +kernel
theorem wb_X5_supply {p : Program} {l : Launch} {e : Env} {s : State} {m : MethodId} {args : Array Value} {below : List Frame} {meth : Method} {c : Code} {G : GG} {ad : Nat → Nat} {hp0 : HP} (X : CX p s m args meth c cX5_supply 3 RX5 (some .int) G) {N : Nat} {M : RM} {a1 : Int} {a2 : Int}   {out : (Int × RM)} (hE : f_X5_supply N M a1 a2 = some out) {H : Heap} {locs : List Loc} {ls : Array Slot} (hM : RW G dX5 ad hp0 M H locs) (hl : lv_has ls 3 [(0, .ref (ad 40)), (1, vI a1), (2, vI a2)]) : W p l e (rmD 2) s m args below meth c H locs 0 0 (QR below G dX5 ad hp0 args s (some (vI out.1)) out.2) (F0 m 0 ls []) := by
  unfold f_X5_supply at hE
  refine e_aload_n X hl 0 rfl dX5_supply_0 rfl ?_
  refine e_iload_n X hl 1 rfl dX5_supply_1 rfl ?_
  obtain ⟨v1, h, hE⟩ := ob_some hE
  refine r_callV1 X hM 40 rfl ck_X5 (rest := []) (met_X5_isTown l G ad hp0 M a1 h) (cwV 1 X.ht (lw_V q3183 q3185 qs74 q170 q3186) rfl rfl rfl hd_X5_isTown (cxR (by decide) (by decide))) rfl hl.1 rfl (Nat.le_of_ble_eq_true rfl) dX5_supply_2 ⟨Nat.le_refl _, Nat.le_refl _⟩ (fun H locs hM => ?_)
  refine e_if_ne X (w32 v1) rfl hE dX5_supply_5 rfl (fun hE => ?_) (fun hE => ?_)
  · refine e_iload_n X hl 2 rfl dX5_supply_10 rfl ?_
    refine e_i2l X dX5_supply_11 ?_
    refine e_ldc2 X (-99) q3191 (by decide) dX5_supply_12 ?_
    refine e_ldc2 X 99 q3192 (by decide) dX5_supply_15 ?_
    obtain ⟨v2, h, hE⟩ := ob_some hE
    refine r_callS1 X hM (rest := []) (met_X5_in l G ad hp0 M (w32 a2) (-99) 99 h) (va_cwS 3 X.ht (lw_S q3172 q3173 q170 q3174) rfl rfl rfl hd_X5_in (cxR (by decide) (by decide))) rfl hl.1 rfl (Nat.le_of_ble_eq_true rfl) dX5_supply_18 ⟨Nat.le_refl _, Nat.le_refl _⟩ (fun H locs hM => ?_)
    refine e_if_ne X (w32 v2) rfl hE dX5_supply_21 rfl (fun hE => ?_) (fun hE => ?_)
    · refine e_aload_n X hl 0 rfl dX5_supply_27 rfl ?_
      obtain ⟨M3, h, hE⟩ := ob_some hE
      refine r_callV0 X hM 40 rfl ck_X5 (rest := []) (met_X5_keeps l G ad hp0 M h) (cwV 0 X.ht (lw_V q3175 q3177 qs73 q170 q3178) rfl rfl rfl hd_X5_keeps (cxR (by decide) (by decide))) rfl hl.1 rfl (Nat.le_of_ble_eq_true rfl) dX5_supply_28 ⟨Nat.le_refl _, Nat.le_refl _⟩ (fun H locs hM => ?_)
      refine e_aload_n X hl 0 rfl dX5_supply_31 rfl ?_
      refine r_getR X hM ck_X5 40 0 rfl rfl (by decide) q3034 rfl dX5_supply_32 ?_
      refine e_iconst X dX5_supply_35 ?_
      refine e_iload_n X hl 1 rfl dX5_supply_36 rfl ?_
      refine e_iadd X dX5_supply_37 ?_
      refine e_iload_n X hl 2 rfl dX5_supply_38 rfl ?_
      refine r_iast X hM 0 rfl (Nat.le_of_ble_eq_true rfl) hE dX5_supply_39 (fun M4 hE H locs hM => ?_)
      refine e_iconst X dX5_supply_40 ?_
      cases hE
      exact r_zret (x := 1) X hM rfl dX5_supply_41
    · refine e_bipush X dX5_supply_24 (by decide) ?_
      cases hE
      exact r_zret (x := (-2)) X hM rfl dX5_supply_26
  · refine e_iconst X dX5_supply_8 ?_
    cases hE
    exact r_zret (x := (-1)) X hM rfl dX5_supply_9
theorem met_X5_supply (l : Launch) (G : GG) (ad : Nat → Nat) (hp0 : HP) {N : Nat} (M : RM) (a1 : Int) (a2 : Int)  {out : (Int × RM)} (hE : f_X5_supply N M a1 a2 = some out) : MR l yX5_supply (ws_ yX5_supply cX5_supply 3 (some .int)) 2 G dX5 ad hp0 [.ref (ad 40), vI a1, vI a2] M (some (vI out.1)) out.2 :=
  MR.of (by decide) (Nat.le_of_ble_eq_true rfl) rfl (fun p e s m below meth c ls X hM hl => wb_X5_supply X hE hM hl)
def f_X5_areTwo (M0 : RM) (a1 : Int) (a2 : Int) : Option Int :=
  ob (f_X5_isTown M0 a1) fun v1 => if w32 v1 = 0 then (some 0) else (ob (f_X5_isTown M0 a2) fun v2 => if w32 v2 = 0 then (some 0) else (if w32 a1 = w32 a2 then (some 0) else (some 1)))
theorem hd_X5_areTwo : yX5_areTwo.cls = RX5 ∧ yX5_areTwo.cls ≠ "java/lang/invoke/MethodHandle" ∧ yX5_areTwo.cls ≠ "java/lang/invoke/VarHandle" ∧ (parseMethodDescriptor yX5_areTwo.desc).map (fun d => d.parameters.length) = some 2 := by decide +kernel
theorem wb_X5_areTwo {p : Program} {l : Launch} {e : Env} {s : State} {m : MethodId} {args : Array Value} {below : List Frame} {meth : Method} {c : Code} {G : GG} {ad : Nat → Nat} {hp0 : HP} {M0 : RM} (X : CX p s m args meth c cX5_areTwo 3 RX5 (some .boolean) G) {a1 : Int} {a2 : Int}   {out : Int} (hE : f_X5_areTwo M0 a1 a2 = some out) {H : Heap} {locs : List Loc} {ls : Array Slot} (hM : RW G dX5 ad hp0 M0 H locs) (hl : lv_has ls 3 [(0, .ref (ad 40)), (1, vI a1), (2, vI a2)]) : W p l e (rmD 2) s m args below meth c H locs 0 0 (QR below G dX5 ad hp0 args s (some (vI out)) M0) (F0 m 0 ls []) := by
  unfold f_X5_areTwo at hE
  refine e_aload_n X hl 0 rfl dX5_areTwo_0 rfl ?_
  refine e_iload_n X hl 1 rfl dX5_areTwo_1 rfl ?_
  obtain ⟨v1, h, hE⟩ := ob_some hE
  refine r_callV1 X hM 40 rfl ck_X5 (rest := []) (met_X5_isTown l G ad hp0 M0 a1 h) (cwV 1 X.ht (lw_V q3183 q3185 qs74 q170 q3186) rfl rfl rfl hd_X5_isTown (cxR (by decide) (by decide))) rfl hl.1 rfl (Nat.le_of_ble_eq_true rfl) dX5_areTwo_2 ⟨Nat.le_refl _, Nat.le_refl _⟩ (fun H locs hM => ?_)
  refine e_if_eq X (w32 v1) rfl hE dX5_areTwo_5 rfl (fun hE => ?_) (fun hE => ?_)
  · refine e_iconst X dX5_areTwo_25 ?_
    cases hE
    exact r_zret (x := 0) X hM rfl dX5_areTwo_26
  · refine e_aload_n X hl 0 rfl dX5_areTwo_8 rfl ?_
    refine e_iload_n X hl 2 rfl dX5_areTwo_9 rfl ?_
    obtain ⟨v2, h, hE⟩ := ob_some hE
    refine r_callV1 X hM 40 rfl ck_X5 (rest := []) (met_X5_isTown l G ad hp0 M0 a2 h) (cwV 1 X.ht (lw_V q3183 q3185 qs74 q170 q3186) rfl rfl rfl hd_X5_isTown (cxR (by decide) (by decide))) rfl hl.1 rfl (Nat.le_of_ble_eq_true rfl) dX5_areTwo_10 ⟨Nat.le_refl _, Nat.le_refl _⟩ (fun H locs hM => ?_)
    refine e_if_eq X (w32 v2) rfl hE dX5_areTwo_13 rfl (fun hE => ?_) (fun hE => ?_)
    · refine e_iconst X dX5_areTwo_25 ?_
      cases hE
      exact r_zret (x := 0) X hM rfl dX5_areTwo_26
    · refine e_iload_n X hl 1 rfl dX5_areTwo_16 rfl ?_
      refine e_iload_n X hl 2 rfl dX5_areTwo_17 rfl ?_
      refine e_icmp_eq X (w32 a1) (w32 a2) rfl rfl hE dX5_areTwo_18 rfl (fun hE => ?_) (fun hE => ?_)
      · refine e_iconst X dX5_areTwo_25 ?_
        cases hE
        exact r_zret (x := 0) X hM rfl dX5_areTwo_26
      · refine e_iconst X dX5_areTwo_21 ?_
        refine e_goto X dX5_areTwo_22 rfl ?_
        cases hE
        exact r_zret (x := 1) X hM rfl dX5_areTwo_26
theorem met_X5_areTwo (l : Launch) (G : GG) (ad : Nat → Nat) (hp0 : HP) (M0 : RM) (a1 : Int) (a2 : Int)  {out : Int} (hE : f_X5_areTwo M0 a1 a2 = some out) : MR l yX5_areTwo (ws_ yX5_areTwo cX5_areTwo 3 (some .boolean)) 2 G dX5 ad hp0 [.ref (ad 40), vI a1, vI a2] M0 (some (vI out)) M0 :=
  MR.of (by decide) (Nat.le_of_ble_eq_true rfl) rfl (fun p e s m below meth c ls X hM hl => wb_X5_areTwo X hE hM hl)
def f_X5_areBounds (M0 : RM) (a1 : Int) (a2 : Int) (a3 : Int) : Option Int :=
  ob (f_X5_in M0 (w32 a1) 0 99) fun v1 => if w32 v1 = 0 then (some 0) else (ob (f_X5_in M0 (w32 a2) (w32 a1) 99) fun v2 => if w32 v2 = 0 then (some 0) else (ob (f_X5_in M0 a3 (-100000000000000000) 100000000000000000) fun v3 => if w32 v3 = 0 then (some 0) else (some 1)))
theorem hd_X5_areBounds : yX5_areBounds.cls ≠ "java/lang/invoke/MethodHandle" ∧ yX5_areBounds.cls ≠ "java/lang/invoke/VarHandle" ∧ (parseMethodDescriptor yX5_areBounds.desc).map (fun d => d.parameters.length) = some 3 := by decide +kernel
theorem wb_X5_areBounds {p : Program} {l : Launch} {e : Env} {s : State} {m : MethodId} {args : Array Value} {below : List Frame} {meth : Method} {c : Code} {G : GG} {ad : Nat → Nat} {hp0 : HP} {M0 : RM} (X : CX p s m args meth c cX5_areBounds 4 RX5 (some .boolean) G) {a1 : Int} {a2 : Int} {a3 : Int}   {out : Int} (hE : f_X5_areBounds M0 a1 a2 a3 = some out) {H : Heap} {locs : List Loc} {ls : Array Slot} (hM : RW G dX5 ad hp0 M0 H locs) (hl : lv_has ls 4 [(0, vI a1), (1, vI a2), (2, vL a3)]) : W p l e (rmD 1) s m args below meth c H locs 0 0 (QR below G dX5 ad hp0 args s (some (vI out)) M0) (F0 m 0 ls []) := by
  unfold f_X5_areBounds at hE
  refine e_iload_n X hl 0 rfl dX5_areBounds_0 rfl ?_
  refine e_i2l X dX5_areBounds_1 ?_
  refine e_lconst X 0 dX5_areBounds_2 (by decide) ?_
  refine e_ldc2 X 99 q3192 (by decide) dX5_areBounds_3 ?_
  obtain ⟨v1, h, hE⟩ := ob_some hE
  refine r_callS1 X hM (rest := []) (met_X5_in l G ad hp0 M0 (w32 a1) 0 99 h) (va_cwS 3 X.ht (lw_S q3172 q3173 q170 q3174) rfl rfl rfl hd_X5_in (cxR (by decide) (by decide))) rfl hl.1 rfl (Nat.le_of_ble_eq_true rfl) dX5_areBounds_6 ⟨Nat.le_refl _, Nat.le_refl _⟩ (fun H locs hM => ?_)
  refine e_if_eq X (w32 v1) rfl hE dX5_areBounds_9 rfl (fun hE => ?_) (fun hE => ?_)
  · refine e_iconst X dX5_areBounds_42 ?_
    cases hE
    exact r_zret (x := 0) X hM rfl dX5_areBounds_43
  · refine e_iload_n X hl 1 rfl dX5_areBounds_12 rfl ?_
    refine e_i2l X dX5_areBounds_13 ?_
    refine e_iload_n X hl 0 rfl dX5_areBounds_14 rfl ?_
    refine e_i2l X dX5_areBounds_15 ?_
    refine e_ldc2 X 99 q3192 (by decide) dX5_areBounds_16 ?_
    obtain ⟨v2, h, hE⟩ := ob_some hE
    refine r_callS1 X hM (rest := []) (met_X5_in l G ad hp0 M0 (w32 a2) (w32 a1) 99 h) (va_cwS 3 X.ht (lw_S q3172 q3173 q170 q3174) rfl rfl rfl hd_X5_in (cxR (by decide) (by decide))) rfl hl.1 rfl (Nat.le_of_ble_eq_true rfl) dX5_areBounds_19 ⟨Nat.le_refl _, Nat.le_refl _⟩ (fun H locs hM => ?_)
    refine e_if_eq X (w32 v2) rfl hE dX5_areBounds_22 rfl (fun hE => ?_) (fun hE => ?_)
    · refine e_iconst X dX5_areBounds_42 ?_
      cases hE
      exact r_zret (x := 0) X hM rfl dX5_areBounds_43
    · refine e_lload_n X hl 2 rfl dX5_areBounds_25 rfl ?_
      refine e_ldc2 X (-100000000000000000) q3204 (by decide) dX5_areBounds_26 ?_
      refine e_ldc2 X 100000000000000000 q3205 (by decide) dX5_areBounds_29 ?_
      obtain ⟨v3, h, hE⟩ := ob_some hE
      refine r_callS1 X hM (rest := []) (met_X5_in l G ad hp0 M0 a3 (-100000000000000000) 100000000000000000 h) (va_cwS 3 X.ht (lw_S q3172 q3173 q170 q3174) rfl rfl rfl hd_X5_in (cxR (by decide) (by decide))) rfl hl.1 rfl (Nat.le_of_ble_eq_true rfl) dX5_areBounds_32 ⟨Nat.le_refl _, Nat.le_refl _⟩ (fun H locs hM => ?_)
      refine e_if_eq X (w32 v3) rfl hE dX5_areBounds_35 rfl (fun hE => ?_) (fun hE => ?_)
      · refine e_iconst X dX5_areBounds_42 ?_
        cases hE
        exact r_zret (x := 0) X hM rfl dX5_areBounds_43
      · refine e_iconst X dX5_areBounds_38 ?_
        refine e_goto X dX5_areBounds_39 rfl ?_
        cases hE
        exact r_zret (x := 1) X hM rfl dX5_areBounds_43
theorem met_X5_areBounds (l : Launch) (G : GG) (ad : Nat → Nat) (hp0 : HP) (M0 : RM) (a1 : Int) (a2 : Int) (a3 : Int)  {out : Int} (hE : f_X5_areBounds M0 a1 a2 a3 = some out) : MR l yX5_areBounds (ws_ yX5_areBounds cX5_areBounds 4 (some .boolean)) 1 G dX5 ad hp0 [vI a1, vI a2, vL a3] M0 (some (vI out)) M0 :=
  MR.of (by decide) (Nat.le_of_ble_eq_true rfl) rfl (fun p e s m below meth c ls X hM hl => wb_X5_areBounds X hE hM hl)
def f_X5_many (M0 : RM)  : Option Int :=
  ob (gA 110 M0 0 1) fun v1 => some v1
theorem hd_X5_many : yX5_many.cls = RX5 ∧ yX5_many.cls ≠ "java/lang/invoke/MethodHandle" ∧ yX5_many.cls ≠ "java/lang/invoke/VarHandle" ∧ (parseMethodDescriptor yX5_many.desc).map (fun d => d.parameters.length) = some 0 := by decide +kernel
theorem wb_X5_many {p : Program} {l : Launch} {e : Env} {s : State} {m : MethodId} {args : Array Value} {below : List Frame} {meth : Method} {c : Code} {G : GG} {ad : Nat → Nat} {hp0 : HP} {M0 : RM} (X : CX p s m args meth c cX5_many 1 RX5 (some .int) G)   {out : Int} (hE : f_X5_many M0 = some out) {H : Heap} {locs : List Loc} {ls : Array Slot} (hM : RW G dX5 ad hp0 M0 H locs) (hl : lv_has ls 1 [(0, .ref (ad 40))]) : W p l e (rmD 0) s m args below meth c H locs 0 0 (QR below G dX5 ad hp0 args s (some (vI out)) M0) (F0 m 0 ls []) := by
  unfold f_X5_many at hE
  refine e_aload_n X hl 0 rfl dX5_many_0 rfl ?_
  refine r_getR X hM ck_X5 40 0 rfl rfl (by decide) q3034 rfl dX5_many_1 ?_
  refine e_iconst X dX5_many_4 ?_
  refine r_iald X hM 0 rfl (Nat.le_of_ble_eq_true rfl) hE dX5_many_5 (fun v1 hE => ?_)
  cases hE
  exact r_zret X hM rfl dX5_many_6
theorem met_X5_many (l : Launch) (G : GG) (ad : Nat → Nat) (hp0 : HP) (M0 : RM)   {out : Int} (hE : f_X5_many M0 = some out) : MR l yX5_many (ws_ yX5_many cX5_many 1 (some .int)) 0 G dX5 ad hp0 [.ref (ad 40)] M0 (some (vI out)) M0 :=
  MR.of (by decide) (Nat.le_of_ble_eq_true rfl) rfl (fun p e s m below meth c ls X hM hl => wb_X5_many X hE hM hl)
def f_X5_lies (M : RM) (a1 : Int) (a2 : Int) (a3 : Int) (a4 : Int) (a5 : Int) (a6 : Int) : Option RM :=
  jn (10 + (4 * a1)) fun v1 => ob (sA 110 M 0 v1 a2) fun M2 => ob (sA 110 M2 0 (v1 + 1) a3) fun M3 => ob (sA 110 M3 0 (v1 + 2) a4) fun M4 => ob (sA 110 M4 0 (v1 + 3) a5) fun M5 => ob (sA 25 M5 1 a1 a6) fun M6 => some M6
theorem hd_X5_lies : yX5_lies.cls = RX5 ∧ yX5_lies.cls ≠ "java/lang/invoke/MethodHandle" ∧ yX5_lies.cls ≠ "java/lang/invoke/VarHandle" ∧ (parseMethodDescriptor yX5_lies.desc).map (fun d => d.parameters.length) = some 6 := by decide +kernel
theorem wb_X5_lies {p : Program} {l : Launch} {e : Env} {s : State} {m : MethodId} {args : Array Value} {below : List Frame} {meth : Method} {c : Code} {G : GG} {ad : Nat → Nat} {hp0 : HP} (X : CX p s m args meth c cX5_lies 9 RX5 none G) {M : RM} {a1 : Int} {a2 : Int} {a3 : Int} {a4 : Int} {a5 : Int} {a6 : Int}   {out : RM} (hE : f_X5_lies M a1 a2 a3 a4 a5 a6 = some out) {H : Heap} {locs : List Loc} {ls : Array Slot} (hM : RW G dX5 ad hp0 M H locs) (hl : lv_has ls 9 [(0, .ref (ad 40)), (1, vI a1), (2, vI a2), (3, vI a3), (4, vI a4), (5, vI a5), (6, vL a6)]) : W p l e (rmD 0) s m args below meth c H locs 0 0 (QR below G dX5 ad hp0 args s none out) (F0 m 0 ls []) := by
  unfold f_X5_lies at hE
  refine e_bipush X dX5_lies_0 (by decide) ?_
  refine e_iconst X dX5_lies_2 ?_
  refine e_iload_n X hl 1 rfl dX5_lies_3 rfl ?_
  refine e_imul X dX5_lies_4 ?_
  refine e_iadd X dX5_lies_5 ?_
  refine e_top hE (fun v1 hE => ?_)
  refine e_istore X hl [(8, vI v1), (0, .ref (ad 40)), (1, vI a1), (2, vI a2), (3, vI a3), (4, vI a4), (5, vI a5), (6, vL a6)] dX5_lies_6 (by decide) rfl (fun ls hl => ?_)
  refine e_aload_n X hl 1 rfl dX5_lies_8 rfl ?_
  refine r_getR X hM ck_X5 40 0 rfl rfl (by decide) q3034 rfl dX5_lies_9 ?_
  refine e_iload X hl 0 rfl dX5_lies_12 ?_
  refine e_iload_n X hl 3 rfl dX5_lies_14 rfl ?_
  refine r_iast X hM 0 rfl (Nat.le_of_ble_eq_true rfl) hE dX5_lies_15 (fun M2 hE H locs hM => ?_)
  refine e_aload_n X hl 1 rfl dX5_lies_16 rfl ?_
  refine r_getR X hM ck_X5 40 0 rfl rfl (by decide) q3034 rfl dX5_lies_17 ?_
  refine e_iload X hl 0 rfl dX5_lies_20 ?_
  refine e_iconst X dX5_lies_22 ?_
  refine e_iadd X dX5_lies_23 ?_
  refine e_iload_n X hl 4 rfl dX5_lies_24 rfl ?_
  refine r_iast X hM 0 rfl (Nat.le_of_ble_eq_true rfl) hE dX5_lies_25 (fun M3 hE H locs hM => ?_)
  refine e_aload_n X hl 1 rfl dX5_lies_26 rfl ?_
  refine r_getR X hM ck_X5 40 0 rfl rfl (by decide) q3034 rfl dX5_lies_27 ?_
  refine e_iload X hl 0 rfl dX5_lies_30 ?_
  refine e_iconst X dX5_lies_32 ?_
  refine e_iadd X dX5_lies_33 ?_
  refine e_iload X hl 5 rfl dX5_lies_34 ?_
  refine r_iast X hM 0 rfl (Nat.le_of_ble_eq_true rfl) hE dX5_lies_36 (fun M4 hE H locs hM => ?_)
  refine e_aload_n X hl 1 rfl dX5_lies_37 rfl ?_
  refine r_getR X hM ck_X5 40 0 rfl rfl (by decide) q3034 rfl dX5_lies_38 ?_
  refine e_iload X hl 0 rfl dX5_lies_41 ?_
  refine e_iconst X dX5_lies_43 ?_
  refine e_iadd X dX5_lies_44 ?_
  refine e_iload X hl 6 rfl dX5_lies_45 ?_
  refine r_iast X hM 0 rfl (Nat.le_of_ble_eq_true rfl) hE dX5_lies_47 (fun M5 hE H locs hM => ?_)
  refine e_aload_n X hl 1 rfl dX5_lies_48 rfl ?_
  refine r_getR X hM ck_X5 40 1 rfl rfl (by decide) q3035 rfl dX5_lies_49 ?_
  refine e_iload_n X hl 2 rfl dX5_lies_52 rfl ?_
  refine e_lload X hl 7 rfl dX5_lies_53 ?_
  refine r_last X hM 1 rfl (Nat.le_of_ble_eq_true rfl) hE dX5_lies_55 (fun M6 hE H locs hM => ?_)
  cases hE
  exact r_vret X hM dX5_lies_56
theorem met_X5_lies (l : Launch) (G : GG) (ad : Nat → Nat) (hp0 : HP) (M : RM) (a1 : Int) (a2 : Int) (a3 : Int) (a4 : Int) (a5 : Int) (a6 : Int)  {out : RM} (hE : f_X5_lies M a1 a2 a3 a4 a5 a6 = some out) : MR l yX5_lies (ws_ yX5_lies cX5_lies 9 none) 0 G dX5 ad hp0 [.ref (ad 40), vI a1, vI a2, vI a3, vI a4, vI a5, vL a6] M none out :=
  MR.of (by decide) (Nat.le_of_ble_eq_true rfl) rfl (fun p e s m below meth c ls X hM hl => wb_X5_lies X hE hM hl)
def f_X5_road (N : Nat) (M : RM) (a1 : Int) (a2 : Int) (a3 : Int) (a4 : Int) (a5 : Int) : Option (Int × RM) :=
  ob (f_X5_areTwo M a1 a2) fun v1 => if ¬ w32 v1 = 0 then (ob (f_X5_areBounds M a3 a4 a5) fun v2 => if ¬ w32 v2 = 0 then (ob (f_X5_many M) fun v3 => if ¬ w32 v3 = 24 then (ob (f_X5_keeps N M) fun M4 => ob (gA 110 M4 0 1) fun v5 => ob (sA 110 M4 0 1 (v5 + 1)) fun M6 => ob (f_X5_lies M6 v5 a1 a2 a3 a4 a5) fun M7 => ob (gA 110 M7 0 1) fun v8 => some (v8 - 1, M7)) else (some ((-4), M))) else (some ((-2), M))) else (some ((-1), M))
theorem hd_X5_road : yX5_road.cls = RX5 ∧ yX5_road.cls ≠ "java/lang/invoke/MethodHandle" ∧ yX5_road.cls ≠ "java/lang/invoke/VarHandle" ∧ (parseMethodDescriptor yX5_road.desc).map (fun d => d.parameters.length) = some 5 := by decide +kernel
theorem wb_X5_road {p : Program} {l : Launch} {e : Env} {s : State} {m : MethodId} {args : Array Value} {below : List Frame} {meth : Method} {c : Code} {G : GG} {ad : Nat → Nat} {hp0 : HP} (X : CX p s m args meth c cX5_road 7 RX5 (some .int) G) {N : Nat} {M : RM} {a1 : Int} {a2 : Int} {a3 : Int} {a4 : Int} {a5 : Int}   {out : (Int × RM)} (hE : f_X5_road N M a1 a2 a3 a4 a5 = some out) {H : Heap} {locs : List Loc} {ls : Array Slot} (hM : RW G dX5 ad hp0 M H locs) (hl : lv_has ls 7 [(0, .ref (ad 40)), (1, vI a1), (2, vI a2), (3, vI a3), (4, vI a4), (5, vL a5)]) : W p l e (rmD 3) s m args below meth c H locs 0 0 (QR below G dX5 ad hp0 args s (some (vI out.1)) out.2) (F0 m 0 ls []) := by
  unfold f_X5_road at hE
  refine e_aload_n X hl 0 rfl dX5_road_0 rfl ?_
  refine e_iload_n X hl 1 rfl dX5_road_1 rfl ?_
  refine e_iload_n X hl 2 rfl dX5_road_2 rfl ?_
  obtain ⟨v1, h, hE⟩ := ob_some hE
  refine r_callV1 X hM 40 rfl ck_X5 (rest := []) (met_X5_areTwo l G ad hp0 M a1 a2 h) (cwV 2 X.ht (lw_V q3197 q3199 qs76 q170 q3200) rfl rfl rfl hd_X5_areTwo (cxR (by decide) (by decide))) rfl hl.1 rfl (Nat.le_of_ble_eq_true rfl) dX5_road_3 ⟨Nat.le_refl _, Nat.le_refl _⟩ (fun H locs hM => ?_)
  refine e_if_ne X (w32 v1) rfl hE dX5_road_6 rfl (fun hE => ?_) (fun hE => ?_)
  · refine e_iload_n X hl 3 rfl dX5_road_11 rfl ?_
    refine e_iload X hl 4 rfl dX5_road_12 ?_
    refine e_lload X hl 5 rfl dX5_road_14 ?_
    obtain ⟨v2, h, hE⟩ := ob_some hE
    refine r_callS1 X hM (rest := []) (met_X5_areBounds l G ad hp0 M a3 a4 a5 h) (va_cwS 3 X.ht (lw_S q3201 q3202 q170 q3203) rfl rfl rfl hd_X5_areBounds (cxR (by decide) (by decide))) rfl hl.1 rfl (Nat.le_of_ble_eq_true rfl) dX5_road_16 ⟨Nat.le_refl _, Nat.le_refl _⟩ (fun H locs hM => ?_)
    refine e_if_ne X (w32 v2) rfl hE dX5_road_19 rfl (fun hE => ?_) (fun hE => ?_)
    · refine e_aload_n X hl 0 rfl dX5_road_25 rfl ?_
      obtain ⟨v3, h, hE⟩ := ob_some hE
      refine r_callV1 X hM 40 rfl ck_X5 (rest := []) (met_X5_many l G ad hp0 M h) (cwV 0 X.ht (lw_V q3206 q3208 qs77 q170 q3209) rfl rfl rfl hd_X5_many (cxR (by decide) (by decide))) rfl hl.1 rfl (Nat.le_of_ble_eq_true rfl) dX5_road_26 ⟨Nat.le_refl _, Nat.le_refl _⟩ (fun H locs hM => ?_)
      refine e_bipush X dX5_road_29 (by decide) ?_
      refine e_icmp_ne X (w32 v3) 24 rfl (by decide) hE dX5_road_31 rfl (fun hE => ?_) (fun hE => ?_)
      · refine e_aload_n X hl 0 rfl dX5_road_37 rfl ?_
        obtain ⟨M4, h, hE⟩ := ob_some hE
        refine r_callV0 X hM 40 rfl ck_X5 (rest := []) (met_X5_keeps l G ad hp0 M h) (cwV 0 X.ht (lw_V q3175 q3177 qs73 q170 q3178) rfl rfl rfl hd_X5_keeps (cxR (by decide) (by decide))) rfl hl.1 rfl (Nat.le_of_ble_eq_true rfl) dX5_road_38 ⟨Nat.le_refl _, Nat.le_refl _⟩ (fun H locs hM => ?_)
        refine e_aload_n X hl 0 rfl dX5_road_41 rfl ?_
        refine e_aload_n X hl 0 rfl dX5_road_42 rfl ?_
        refine r_getR X hM ck_X5 40 0 rfl rfl (by decide) q3034 rfl dX5_road_43 ?_
        refine e_iconst X dX5_road_46 ?_
        refine e_dup2 X dX5_road_47 rfl rfl ?_
        refine r_iald X hM 0 rfl (Nat.le_of_ble_eq_true rfl) hE dX5_road_48 (fun v5 hE => ?_)
        refine e_dup_x2 X dX5_road_49 rfl rfl rfl ?_
        refine e_iconst X dX5_road_50 ?_
        refine e_iadd X dX5_road_51 ?_
        refine r_iast X hM 0 rfl (Nat.le_of_ble_eq_true rfl) hE dX5_road_52 (fun M6 hE H locs hM => ?_)
        refine e_iload_n X hl 1 rfl dX5_road_53 rfl ?_
        refine e_iload_n X hl 2 rfl dX5_road_54 rfl ?_
        refine e_iload_n X hl 3 rfl dX5_road_55 rfl ?_
        refine e_iload X hl 4 rfl dX5_road_56 ?_
        refine e_lload X hl 5 rfl dX5_road_58 ?_
        obtain ⟨M7, h, hE⟩ := ob_some hE
        refine r_callV0 X hM 40 rfl ck_X5 (rest := []) (met_X5_lies l G ad hp0 M6 v5 a1 a2 a3 a4 a5 h) (cwV 6 X.ht (lw_V q3210 q3212 qs78 q170 q3213) rfl rfl rfl hd_X5_lies (cxR (by decide) (by decide))) rfl hl.1 rfl (Nat.le_of_ble_eq_true rfl) dX5_road_60 ⟨Nat.le_refl _, Nat.le_refl _⟩ (fun H locs hM => ?_)
        refine e_aload_n X hl 0 rfl dX5_road_63 rfl ?_
        refine r_getR X hM ck_X5 40 0 rfl rfl (by decide) q3034 rfl dX5_road_64 ?_
        refine e_iconst X dX5_road_67 ?_
        refine r_iald X hM 0 rfl (Nat.le_of_ble_eq_true rfl) hE dX5_road_68 (fun v8 hE => ?_)
        refine e_iconst X dX5_road_69 ?_
        refine e_isub X dX5_road_70 ?_
        cases hE
        exact r_zret X hM rfl dX5_road_71
      · refine e_bipush X dX5_road_34 (by decide) ?_
        cases hE
        exact r_zret (x := (-4)) X hM rfl dX5_road_36
    · refine e_bipush X dX5_road_22 (by decide) ?_
      cases hE
      exact r_zret (x := (-2)) X hM rfl dX5_road_24
  · refine e_iconst X dX5_road_9 ?_
    cases hE
    exact r_zret (x := (-1)) X hM rfl dX5_road_10
theorem met_X5_road (l : Launch) (G : GG) (ad : Nat → Nat) (hp0 : HP) {N : Nat} (M : RM) (a1 : Int) (a2 : Int) (a3 : Int) (a4 : Int) (a5 : Int)  {out : (Int × RM)} (hE : f_X5_road N M a1 a2 a3 a4 a5 = some out) : MR l yX5_road (ws_ yX5_road cX5_road 7 (some .int)) 3 G dX5 ad hp0 [.ref (ad 40), vI a1, vI a2, vI a3, vI a4, vL a5] M (some (vI out.1)) out.2 :=
  MR.of (by decide) (Nat.le_of_ble_eq_true rfl) rfl (fun p e s m below meth c ls X hM hl => wb_X5_road X hE hM hl)
def f_X5_isRoad (M0 : RM) (a1 : Int) : Option Int :=
  ob (f_X5_many M0) fun v1 => ob (f_X5_in M0 (w32 a1) 0 (w32 (v1 - 1))) fun v2 => ob (tz v2) fun v3 => some v3
theorem hd_X5_isRoad : yX5_isRoad.cls = RX5 ∧ yX5_isRoad.cls ≠ "java/lang/invoke/MethodHandle" ∧ yX5_isRoad.cls ≠ "java/lang/invoke/VarHandle" ∧ (parseMethodDescriptor yX5_isRoad.desc).map (fun d => d.parameters.length) = some 1 := by decide +kernel
theorem wb_X5_isRoad {p : Program} {l : Launch} {e : Env} {s : State} {m : MethodId} {args : Array Value} {below : List Frame} {meth : Method} {c : Code} {G : GG} {ad : Nat → Nat} {hp0 : HP} {M0 : RM} (X : CX p s m args meth c cX5_isRoad 2 RX5 (some .boolean) G) {a1 : Int}   {out : Int} (hE : f_X5_isRoad M0 a1 = some out) {H : Heap} {locs : List Loc} {ls : Array Slot} (hM : RW G dX5 ad hp0 M0 H locs) (hl : lv_has ls 2 [(0, .ref (ad 40)), (1, vI a1)]) : W p l e (rmD 1) s m args below meth c H locs 0 0 (QR below G dX5 ad hp0 args s (some (vI out)) M0) (F0 m 0 ls []) := by
  unfold f_X5_isRoad at hE
  refine e_iload_n X hl 1 rfl dX5_isRoad_0 rfl ?_
  refine e_i2l X dX5_isRoad_1 ?_
  refine e_lconst X 0 dX5_isRoad_2 (by decide) ?_
  refine e_aload_n X hl 0 rfl dX5_isRoad_3 rfl ?_
  obtain ⟨v1, h, hE⟩ := ob_some hE
  refine r_callV1 X hM 40 rfl ck_X5 (rest := [vL 0, vL (w32 a1)]) (met_X5_many l G ad hp0 M0 h) (cwV 0 X.ht (lw_V q3206 q3208 qs77 q170 q3209) rfl rfl rfl hd_X5_many (cxR (by decide) (by decide))) rfl hl.1 rfl (Nat.le_of_ble_eq_true rfl) dX5_isRoad_4 ⟨Nat.le_refl _, Nat.le_refl _⟩ (fun H locs hM => ?_)
  refine e_iconst X dX5_isRoad_7 ?_
  refine e_isub X dX5_isRoad_8 ?_
  refine e_i2l X dX5_isRoad_9 ?_
  obtain ⟨v2, h, hE⟩ := ob_some hE
  refine r_callS1 X hM (rest := []) (met_X5_in l G ad hp0 M0 (w32 a1) 0 (w32 (v1 - 1)) h) (va_cwS 3 X.ht (lw_S q3172 q3173 q170 q3174) rfl rfl rfl hd_X5_in (cxR (by decide) (by decide))) rfl hl.1 rfl (Nat.le_of_ble_eq_true rfl) dX5_isRoad_10 ⟨Nat.le_refl _, Nat.le_refl _⟩ (fun H locs hM => ?_)
  obtain ⟨v3, hz, hE⟩ := ob_some hE
  have hn := nb_z hz
  have hz := (tz_some hz).2
  rw [hz] at hE
  cases hE
  exact r_zret X hM hn dX5_isRoad_13
theorem met_X5_isRoad (l : Launch) (G : GG) (ad : Nat → Nat) (hp0 : HP) (M0 : RM) (a1 : Int)  {out : Int} (hE : f_X5_isRoad M0 a1 = some out) : MR l yX5_isRoad (ws_ yX5_isRoad cX5_isRoad 2 (some .boolean)) 1 G dX5 ad hp0 [.ref (ad 40), vI a1] M0 (some (vI out)) M0 :=
  MR.of (by decide) (Nat.le_of_ble_eq_true rfl) rfl (fun p e s m below meth c ls X hM hl => wb_X5_isRoad X hE hM hl)
def f_X5_from (M0 : RM) (a1 : Int) : Option Int :=
  ob (gA 110 M0 0 (10 + (4 * a1))) fun v1 => some v1
theorem hd_X5_from : yX5_from.cls = RX5 ∧ yX5_from.cls ≠ "java/lang/invoke/MethodHandle" ∧ yX5_from.cls ≠ "java/lang/invoke/VarHandle" ∧ (parseMethodDescriptor yX5_from.desc).map (fun d => d.parameters.length) = some 1 := by decide +kernel
theorem wb_X5_from {p : Program} {l : Launch} {e : Env} {s : State} {m : MethodId} {args : Array Value} {below : List Frame} {meth : Method} {c : Code} {G : GG} {ad : Nat → Nat} {hp0 : HP} {M0 : RM} (X : CX p s m args meth c cX5_from 2 RX5 (some .int) G) {a1 : Int}   {out : Int} (hE : f_X5_from M0 a1 = some out) {H : Heap} {locs : List Loc} {ls : Array Slot} (hM : RW G dX5 ad hp0 M0 H locs) (hl : lv_has ls 2 [(0, .ref (ad 40)), (1, vI a1)]) : W p l e (rmD 0) s m args below meth c H locs 0 0 (QR below G dX5 ad hp0 args s (some (vI out)) M0) (F0 m 0 ls []) := by
  unfold f_X5_from at hE
  refine e_aload_n X hl 0 rfl dX5_from_0 rfl ?_
  refine r_getR X hM ck_X5 40 0 rfl rfl (by decide) q3034 rfl dX5_from_1 ?_
  refine e_bipush X dX5_from_4 (by decide) ?_
  refine e_iconst X dX5_from_6 ?_
  refine e_iload_n X hl 1 rfl dX5_from_7 rfl ?_
  refine e_imul X dX5_from_8 ?_
  refine e_iadd X dX5_from_9 ?_
  refine r_iald X hM 0 rfl (Nat.le_of_ble_eq_true rfl) hE dX5_from_10 (fun v1 hE => ?_)
  cases hE
  exact r_zret X hM rfl dX5_from_11
theorem met_X5_from (l : Launch) (G : GG) (ad : Nat → Nat) (hp0 : HP) (M0 : RM) (a1 : Int)  {out : Int} (hE : f_X5_from M0 a1 = some out) : MR l yX5_from (ws_ yX5_from cX5_from 2 (some .int)) 0 G dX5 ad hp0 [.ref (ad 40), vI a1] M0 (some (vI out)) M0 :=
  MR.of (by decide) (Nat.le_of_ble_eq_true rfl) rfl (fun p e s m below meth c ls X hM hl => wb_X5_from X hE hM hl)
def f_X5_to (M0 : RM) (a1 : Int) : Option Int :=
  ob (gA 110 M0 0 ((10 + (4 * a1)) + 1)) fun v1 => some v1
theorem hd_X5_to : yX5_to.cls = RX5 ∧ yX5_to.cls ≠ "java/lang/invoke/MethodHandle" ∧ yX5_to.cls ≠ "java/lang/invoke/VarHandle" ∧ (parseMethodDescriptor yX5_to.desc).map (fun d => d.parameters.length) = some 1 := by decide +kernel
theorem wb_X5_to {p : Program} {l : Launch} {e : Env} {s : State} {m : MethodId} {args : Array Value} {below : List Frame} {meth : Method} {c : Code} {G : GG} {ad : Nat → Nat} {hp0 : HP} {M0 : RM} (X : CX p s m args meth c cX5_to 2 RX5 (some .int) G) {a1 : Int}   {out : Int} (hE : f_X5_to M0 a1 = some out) {H : Heap} {locs : List Loc} {ls : Array Slot} (hM : RW G dX5 ad hp0 M0 H locs) (hl : lv_has ls 2 [(0, .ref (ad 40)), (1, vI a1)]) : W p l e (rmD 0) s m args below meth c H locs 0 0 (QR below G dX5 ad hp0 args s (some (vI out)) M0) (F0 m 0 ls []) := by
  unfold f_X5_to at hE
  refine e_aload_n X hl 0 rfl dX5_to_0 rfl ?_
  refine r_getR X hM ck_X5 40 0 rfl rfl (by decide) q3034 rfl dX5_to_1 ?_
  refine e_bipush X dX5_to_4 (by decide) ?_
  refine e_iconst X dX5_to_6 ?_
  refine e_iload_n X hl 1 rfl dX5_to_7 rfl ?_
  refine e_imul X dX5_to_8 ?_
  refine e_iadd X dX5_to_9 ?_
  refine e_iconst X dX5_to_10 ?_
  refine e_iadd X dX5_to_11 ?_
  refine r_iald X hM 0 rfl (Nat.le_of_ble_eq_true rfl) hE dX5_to_12 (fun v1 hE => ?_)
  cases hE
  exact r_zret X hM rfl dX5_to_13
theorem met_X5_to (l : Launch) (G : GG) (ad : Nat → Nat) (hp0 : HP) (M0 : RM) (a1 : Int)  {out : Int} (hE : f_X5_to M0 a1 = some out) : MR l yX5_to (ws_ yX5_to cX5_to 2 (some .int)) 0 G dX5 ad hp0 [.ref (ad 40), vI a1] M0 (some (vI out)) M0 :=
  MR.of (by decide) (Nat.le_of_ble_eq_true rfl) rfl (fun p e s m below meth c ls X hM hl => wb_X5_to X hE hM hl)
def f_X5_alter (N : Nat) (M : RM) (a1 : Int) (a2 : Int) (a3 : Int) (a4 : Int) : Option (Int × RM) :=
  ob (f_X5_isRoad M a1) fun v1 => if ¬ w32 v1 = 0 then (ob (f_X5_areBounds M a2 a3 a4) fun v2 => if ¬ w32 v2 = 0 then (ob (f_X5_keeps N M) fun M3 => ob (f_X5_from M3 a1) fun v4 => ob (f_X5_to M3 a1) fun v5 => ob (f_X5_lies M3 a1 v4 v5 a2 a3 a4) fun M6 => some (1, M6)) else (some ((-2), M))) else (some ((-1), M))
theorem hd_X5_alter : yX5_alter.cls = RX5 ∧ yX5_alter.cls ≠ "java/lang/invoke/MethodHandle" ∧ yX5_alter.cls ≠ "java/lang/invoke/VarHandle" ∧ (parseMethodDescriptor yX5_alter.desc).map (fun d => d.parameters.length) = some 4 := by decide +kernel
theorem wb_X5_alter {p : Program} {l : Launch} {e : Env} {s : State} {m : MethodId} {args : Array Value} {below : List Frame} {meth : Method} {c : Code} {G : GG} {ad : Nat → Nat} {hp0 : HP} (X : CX p s m args meth c cX5_alter 6 RX5 (some .int) G) {N : Nat} {M : RM} {a1 : Int} {a2 : Int} {a3 : Int} {a4 : Int}   {out : (Int × RM)} (hE : f_X5_alter N M a1 a2 a3 a4 = some out) {H : Heap} {locs : List Loc} {ls : Array Slot} (hM : RW G dX5 ad hp0 M H locs) (hl : lv_has ls 6 [(0, .ref (ad 40)), (1, vI a1), (2, vI a2), (3, vI a3), (4, vL a4)]) : W p l e (rmD 2) s m args below meth c H locs 0 0 (QR below G dX5 ad hp0 args s (some (vI out.1)) out.2) (F0 m 0 ls []) := by
  unfold f_X5_alter at hE
  refine e_aload_n X hl 0 rfl dX5_alter_0 rfl ?_
  refine e_iload_n X hl 1 rfl dX5_alter_1 rfl ?_
  obtain ⟨v1, h, hE⟩ := ob_some hE
  refine r_callV1 X hM 40 rfl ck_X5 (rest := []) (met_X5_isRoad l G ad hp0 M a1 h) (cwV 1 X.ht (lw_V q3218 q3220 qs79 q170 q3221) rfl rfl rfl hd_X5_isRoad (cxR (by decide) (by decide))) rfl hl.1 rfl (Nat.le_of_ble_eq_true rfl) dX5_alter_2 ⟨Nat.le_refl _, Nat.le_refl _⟩ (fun H locs hM => ?_)
  refine e_if_ne X (w32 v1) rfl hE dX5_alter_5 rfl (fun hE => ?_) (fun hE => ?_)
  · refine e_iload_n X hl 2 rfl dX5_alter_10 rfl ?_
    refine e_iload_n X hl 3 rfl dX5_alter_11 rfl ?_
    refine e_lload X hl 4 rfl dX5_alter_12 ?_
    obtain ⟨v2, h, hE⟩ := ob_some hE
    refine r_callS1 X hM (rest := []) (met_X5_areBounds l G ad hp0 M a2 a3 a4 h) (va_cwS 3 X.ht (lw_S q3201 q3202 q170 q3203) rfl rfl rfl hd_X5_areBounds (cxR (by decide) (by decide))) rfl hl.1 rfl (Nat.le_of_ble_eq_true rfl) dX5_alter_14 ⟨Nat.le_refl _, Nat.le_refl _⟩ (fun H locs hM => ?_)
    refine e_if_ne X (w32 v2) rfl hE dX5_alter_17 rfl (fun hE => ?_) (fun hE => ?_)
    · refine e_aload_n X hl 0 rfl dX5_alter_23 rfl ?_
      obtain ⟨M3, h, hE⟩ := ob_some hE
      refine r_callV0 X hM 40 rfl ck_X5 (rest := []) (met_X5_keeps l G ad hp0 M h) (cwV 0 X.ht (lw_V q3175 q3177 qs73 q170 q3178) rfl rfl rfl hd_X5_keeps (cxR (by decide) (by decide))) rfl hl.1 rfl (Nat.le_of_ble_eq_true rfl) dX5_alter_24 ⟨Nat.le_refl _, Nat.le_refl _⟩ (fun H locs hM => ?_)
      refine e_aload_n X hl 0 rfl dX5_alter_27 rfl ?_
      refine e_iload_n X hl 1 rfl dX5_alter_28 rfl ?_
      refine e_aload_n X hl 0 rfl dX5_alter_29 rfl ?_
      refine e_iload_n X hl 1 rfl dX5_alter_30 rfl ?_
      obtain ⟨v4, h, hE⟩ := ob_some hE
      refine r_callV1 X hM 40 rfl ck_X5 (rest := [vI a1, .ref (ad 40)]) (met_X5_from l G ad hp0 M3 a1 h) (cwV 1 X.ht (lw_V q3222 q3224 qs80 q170 q3225) rfl rfl rfl hd_X5_from (cxR (by decide) (by decide))) rfl hl.1 rfl (Nat.le_of_ble_eq_true rfl) dX5_alter_31 ⟨Nat.le_refl _, Nat.le_refl _⟩ (fun H locs hM => ?_)
      refine e_aload_n X hl 0 rfl dX5_alter_34 rfl ?_
      refine e_iload_n X hl 1 rfl dX5_alter_35 rfl ?_
      obtain ⟨v5, h, hE⟩ := ob_some hE
      refine r_callV1 X hM 40 rfl ck_X5 (rest := [vI v4, vI a1, .ref (ad 40)]) (met_X5_to l G ad hp0 M3 a1 h) (cwV 1 X.ht (lw_V q3226 q3228 qs81 q170 q3229) rfl rfl rfl hd_X5_to (cxR (by decide) (by decide))) rfl hl.1 rfl (Nat.le_of_ble_eq_true rfl) dX5_alter_36 ⟨Nat.le_refl _, Nat.le_refl _⟩ (fun H locs hM => ?_)
      refine e_iload_n X hl 2 rfl dX5_alter_39 rfl ?_
      refine e_iload_n X hl 3 rfl dX5_alter_40 rfl ?_
      refine e_lload X hl 4 rfl dX5_alter_41 ?_
      obtain ⟨M6, h, hE⟩ := ob_some hE
      refine r_callV0 X hM 40 rfl ck_X5 (rest := []) (met_X5_lies l G ad hp0 M3 a1 v4 v5 a2 a3 a4 h) (cwV 6 X.ht (lw_V q3210 q3212 qs78 q170 q3213) rfl rfl rfl hd_X5_lies (cxR (by decide) (by decide))) rfl hl.1 rfl (Nat.le_of_ble_eq_true rfl) dX5_alter_43 ⟨Nat.le_refl _, Nat.le_refl _⟩ (fun H locs hM => ?_)
      refine e_iconst X dX5_alter_46 ?_
      cases hE
      exact r_zret (x := 1) X hM rfl dX5_alter_47
    · refine e_bipush X dX5_alter_20 (by decide) ?_
      cases hE
      exact r_zret (x := (-2)) X hM rfl dX5_alter_22
  · refine e_iconst X dX5_alter_8 ?_
    cases hE
    exact r_zret (x := (-1)) X hM rfl dX5_alter_9
theorem met_X5_alter (l : Launch) (G : GG) (ad : Nat → Nat) (hp0 : HP) {N : Nat} (M : RM) (a1 : Int) (a2 : Int) (a3 : Int) (a4 : Int)  {out : (Int × RM)} (hE : f_X5_alter N M a1 a2 a3 a4 = some out) : MR l yX5_alter (ws_ yX5_alter cX5_alter 6 (some .int)) 2 G dX5 ad hp0 [.ref (ad 40), vI a1, vI a2, vI a3, vL a4] M (some (vI out.1)) out.2 :=
  MR.of (by decide) (Nat.le_of_ble_eq_true rfl) rfl (fun p e s m below meth c ls X hM hl => wb_X5_alter X hE hM hl)
def f_X5_low (M0 : RM) (a1 : Int) : Option Int :=
  ob (gA 110 M0 0 ((10 + (4 * a1)) + 2)) fun v1 => some v1
theorem hd_X5_low : yX5_low.cls = RX5 ∧ yX5_low.cls ≠ "java/lang/invoke/MethodHandle" ∧ yX5_low.cls ≠ "java/lang/invoke/VarHandle" ∧ (parseMethodDescriptor yX5_low.desc).map (fun d => d.parameters.length) = some 1 := by decide +kernel
theorem wb_X5_low {p : Program} {l : Launch} {e : Env} {s : State} {m : MethodId} {args : Array Value} {below : List Frame} {meth : Method} {c : Code} {G : GG} {ad : Nat → Nat} {hp0 : HP} {M0 : RM} (X : CX p s m args meth c cX5_low 2 RX5 (some .int) G) {a1 : Int}   {out : Int} (hE : f_X5_low M0 a1 = some out) {H : Heap} {locs : List Loc} {ls : Array Slot} (hM : RW G dX5 ad hp0 M0 H locs) (hl : lv_has ls 2 [(0, .ref (ad 40)), (1, vI a1)]) : W p l e (rmD 0) s m args below meth c H locs 0 0 (QR below G dX5 ad hp0 args s (some (vI out)) M0) (F0 m 0 ls []) := by
  unfold f_X5_low at hE
  refine e_aload_n X hl 0 rfl dX5_low_0 rfl ?_
  refine r_getR X hM ck_X5 40 0 rfl rfl (by decide) q3034 rfl dX5_low_1 ?_
  refine e_bipush X dX5_low_4 (by decide) ?_
  refine e_iconst X dX5_low_6 ?_
  refine e_iload_n X hl 1 rfl dX5_low_7 rfl ?_
  refine e_imul X dX5_low_8 ?_
  refine e_iadd X dX5_low_9 ?_
  refine e_iconst X dX5_low_10 ?_
  refine e_iadd X dX5_low_11 ?_
  refine r_iald X hM 0 rfl (Nat.le_of_ble_eq_true rfl) hE dX5_low_12 (fun v1 hE => ?_)
  cases hE
  exact r_zret X hM rfl dX5_low_13
theorem met_X5_low (l : Launch) (G : GG) (ad : Nat → Nat) (hp0 : HP) (M0 : RM) (a1 : Int)  {out : Int} (hE : f_X5_low M0 a1 = some out) : MR l yX5_low (ws_ yX5_low cX5_low 2 (some .int)) 0 G dX5 ad hp0 [.ref (ad 40), vI a1] M0 (some (vI out)) M0 :=
  MR.of (by decide) (Nat.le_of_ble_eq_true rfl) rfl (fun p e s m below meth c ls X hM hl => wb_X5_low X hE hM hl)
def f_X5_most (M0 : RM) (a1 : Int) : Option Int :=
  ob (gA 110 M0 0 ((10 + (4 * a1)) + 3)) fun v1 => some v1
theorem hd_X5_most : yX5_most.cls = RX5 ∧ yX5_most.cls ≠ "java/lang/invoke/MethodHandle" ∧ yX5_most.cls ≠ "java/lang/invoke/VarHandle" ∧ (parseMethodDescriptor yX5_most.desc).map (fun d => d.parameters.length) = some 1 := by decide +kernel
theorem wb_X5_most {p : Program} {l : Launch} {e : Env} {s : State} {m : MethodId} {args : Array Value} {below : List Frame} {meth : Method} {c : Code} {G : GG} {ad : Nat → Nat} {hp0 : HP} {M0 : RM} (X : CX p s m args meth c cX5_most 2 RX5 (some .int) G) {a1 : Int}   {out : Int} (hE : f_X5_most M0 a1 = some out) {H : Heap} {locs : List Loc} {ls : Array Slot} (hM : RW G dX5 ad hp0 M0 H locs) (hl : lv_has ls 2 [(0, .ref (ad 40)), (1, vI a1)]) : W p l e (rmD 0) s m args below meth c H locs 0 0 (QR below G dX5 ad hp0 args s (some (vI out)) M0) (F0 m 0 ls []) := by
  unfold f_X5_most at hE
  refine e_aload_n X hl 0 rfl dX5_most_0 rfl ?_
  refine r_getR X hM ck_X5 40 0 rfl rfl (by decide) q3034 rfl dX5_most_1 ?_
  refine e_bipush X dX5_most_4 (by decide) ?_
  refine e_iconst X dX5_most_6 ?_
  refine e_iload_n X hl 1 rfl dX5_most_7 rfl ?_
  refine e_imul X dX5_most_8 ?_
  refine e_iadd X dX5_most_9 ?_
  refine e_iconst X dX5_most_10 ?_
  refine e_iadd X dX5_most_11 ?_
  refine r_iald X hM 0 rfl (Nat.le_of_ble_eq_true rfl) hE dX5_most_12 (fun v1 hE => ?_)
  cases hE
  exact r_zret X hM rfl dX5_most_13
theorem met_X5_most (l : Launch) (G : GG) (ad : Nat → Nat) (hp0 : HP) (M0 : RM) (a1 : Int)  {out : Int} (hE : f_X5_most M0 a1 = some out) : MR l yX5_most (ws_ yX5_most cX5_most 2 (some .int)) 0 G dX5 ad hp0 [.ref (ad 40), vI a1] M0 (some (vI out)) M0 :=
  MR.of (by decide) (Nat.le_of_ble_eq_true rfl) rfl (fun p e s m below meth c ls X hM hl => wb_X5_most X hE hM hl)
def f_X5_closes_L12 (N : Nat)  (k : RM → Int → Option RM) : Nat → RM → Int → Option RM
  | 0, _, _ => none
  | n + 1, M, x2 =>
    ob (gA 110 M 0 1) fun v3 => if w32 v3 ≤ w32 x2 then (k M x2) else (ob (f_X5_from M (x2 + 1)) fun v4 => ob (f_X5_to M (x2 + 1)) fun v5 => ob (f_X5_low M (x2 + 1)) fun v6 => ob (f_X5_most M (x2 + 1)) fun v7 => ob (gA 25 M 1 (x2 + 1)) fun v8 => ob (f_X5_lies M x2 v4 v5 v6 v7 v8) fun M9 => jn (x2 + 1) fun v10 => f_X5_closes_L12 N  k n M9 v10)
def f_X5_closes (N : Nat) (M : RM) (a1 : Int) : Option RM :=
  ob (gA 110 M 0 1) fun v1 => ob (sA 110 M 0 1 (v1 - 1)) fun M2 => f_X5_closes_L12 N  (fun (M11 : RM) (v12 : Int) => some M11) N M2 a1
theorem hd_X5_closes : yX5_closes.cls = RX5 ∧ yX5_closes.cls ≠ "java/lang/invoke/MethodHandle" ∧ yX5_closes.cls ≠ "java/lang/invoke/VarHandle" ∧ (parseMethodDescriptor yX5_closes.desc).map (fun d => d.parameters.length) = some 1 := by decide +kernel
theorem wl_X5_closes_12 {p : Program} {l : Launch} {e : Env} {s : State} {m : MethodId} {args : Array Value} {below : List Frame} {meth : Method} {c : Code} {G : GG} {ad : Nat → Nat} {hp0 : HP} (X : CX p s m args meth c cX5_closes 3 RX5 none G) {N : Nat}   {k : RM → Int → Option RM} {out : RM} : ∀ (n : Nat) (M : RM) (x2 : Int) (H : Heap) (locs : List Loc) (ls : Array Slot) (hE : f_X5_closes_L12 N  k n M x2 = some out) (hM : RW G dX5 ad hp0 M H locs) (hl : lv_has ls 3 [(0, .ref (ad 40)), (2, vI x2)]) (hk : ∀ (M : RM) (x2 : Int) (H : Heap) (locs : List Loc) (ls : Array Slot), RW G dX5 ad hp0 M H locs → lv_has ls 3 [(0, .ref (ad 40)), (2, vI x2)] → k M x2 = some out → W p l e (rmD 1) s m args below meth c H locs 0 0 (QR below G dX5 ad hp0 args s none out) (F0 m 69 ls [])), W p l e (rmD 1) s m args below meth c H locs 0 0 (QR below G dX5 ad hp0 args s none out) (F0 m 12 ls []) := by
  intro n
  induction n with
  | zero =>
    intro M x2 H locs ls hE hM hl hk
    unfold f_X5_closes_L12 at hE
    cases hE
  | succ n ih =>
    intro M x2 H locs ls hE hM hl hk
    unfold f_X5_closes_L12 at hE
    refine e_iload_n X hl 1 rfl dX5_closes_12 rfl ?_
    refine e_aload_n X hl 0 rfl dX5_closes_13 rfl ?_
    refine r_getR X hM ck_X5 40 0 rfl rfl (by decide) q3034 rfl dX5_closes_14 ?_
    refine e_iconst X dX5_closes_17 ?_
    refine r_iald X hM 0 rfl (Nat.le_of_ble_eq_true rfl) hE dX5_closes_18 (fun v3 hE => ?_)
    refine e_icmp_ge X (w32 x2) (w32 v3) rfl rfl hE dX5_closes_19 rfl (fun hE => ?_) (fun hE => ?_)
    · exact hk M x2 _ _ _ hM (lv_sub hl [0, 1] rfl) hE
    · refine e_aload_n X hl 0 rfl dX5_closes_22 rfl ?_
      refine e_iload_n X hl 1 rfl dX5_closes_23 rfl ?_
      refine e_aload_n X hl 0 rfl dX5_closes_24 rfl ?_
      refine e_iload_n X hl 1 rfl dX5_closes_25 rfl ?_
      refine e_iconst X dX5_closes_26 ?_
      refine e_iadd X dX5_closes_27 ?_
      obtain ⟨v4, h, hE⟩ := ob_some hE
      refine r_callV1 X hM 40 rfl ck_X5 (rest := [vI x2, .ref (ad 40)]) (met_X5_from l G ad hp0 M (x2 + 1) h) (cwV 1 X.ht (lw_V q3222 q3224 qs80 q170 q3225) rfl rfl rfl hd_X5_from (cxR (by decide) (by decide))) rfl hl.1 rfl (Nat.le_of_ble_eq_true rfl) dX5_closes_28 ⟨Nat.le_refl _, Nat.le_refl _⟩ (fun H locs hM => ?_)
      refine e_aload_n X hl 0 rfl dX5_closes_31 rfl ?_
      refine e_iload_n X hl 1 rfl dX5_closes_32 rfl ?_
      refine e_iconst X dX5_closes_33 ?_
      refine e_iadd X dX5_closes_34 ?_
      obtain ⟨v5, h, hE⟩ := ob_some hE
      refine r_callV1 X hM 40 rfl ck_X5 (rest := [vI v4, vI x2, .ref (ad 40)]) (met_X5_to l G ad hp0 M (x2 + 1) h) (cwV 1 X.ht (lw_V q3226 q3228 qs81 q170 q3229) rfl rfl rfl hd_X5_to (cxR (by decide) (by decide))) rfl hl.1 rfl (Nat.le_of_ble_eq_true rfl) dX5_closes_35 ⟨Nat.le_refl _, Nat.le_refl _⟩ (fun H locs hM => ?_)
      refine e_aload_n X hl 0 rfl dX5_closes_38 rfl ?_
      refine e_iload_n X hl 1 rfl dX5_closes_39 rfl ?_
      refine e_iconst X dX5_closes_40 ?_
      refine e_iadd X dX5_closes_41 ?_
      obtain ⟨v6, h, hE⟩ := ob_some hE
      refine r_callV1 X hM 40 rfl ck_X5 (rest := [vI v5, vI v4, vI x2, .ref (ad 40)]) (met_X5_low l G ad hp0 M (x2 + 1) h) (cwV 1 X.ht (lw_V q3238 q3240 qs83 q170 q3241) rfl rfl rfl hd_X5_low (cxR (by decide) (by decide))) rfl hl.1 rfl (Nat.le_of_ble_eq_true rfl) dX5_closes_42 ⟨Nat.le_refl _, Nat.le_refl _⟩ (fun H locs hM => ?_)
      refine e_aload_n X hl 0 rfl dX5_closes_45 rfl ?_
      refine e_iload_n X hl 1 rfl dX5_closes_46 rfl ?_
      refine e_iconst X dX5_closes_47 ?_
      refine e_iadd X dX5_closes_48 ?_
      obtain ⟨v7, h, hE⟩ := ob_some hE
      refine r_callV1 X hM 40 rfl ck_X5 (rest := [vI v6, vI v5, vI v4, vI x2, .ref (ad 40)]) (met_X5_most l G ad hp0 M (x2 + 1) h) (cwV 1 X.ht (lw_V q3242 q3244 qs84 q170 q3245) rfl rfl rfl hd_X5_most (cxR (by decide) (by decide))) rfl hl.1 rfl (Nat.le_of_ble_eq_true rfl) dX5_closes_49 ⟨Nat.le_refl _, Nat.le_refl _⟩ (fun H locs hM => ?_)
      refine e_aload_n X hl 0 rfl dX5_closes_52 rfl ?_
      refine r_getR X hM ck_X5 40 1 rfl rfl (by decide) q3035 rfl dX5_closes_53 ?_
      refine e_iload_n X hl 1 rfl dX5_closes_56 rfl ?_
      refine e_iconst X dX5_closes_57 ?_
      refine e_iadd X dX5_closes_58 ?_
      refine r_lald X hM 1 rfl (Nat.le_of_ble_eq_true rfl) hE dX5_closes_59 (fun v8 hE => ?_)
      obtain ⟨M9, h, hE⟩ := ob_some hE
      refine r_callV0 X hM 40 rfl ck_X5 (rest := []) (met_X5_lies l G ad hp0 M x2 v4 v5 v6 v7 v8 h) (cwV 6 X.ht (lw_V q3210 q3212 qs78 q170 q3213) rfl rfl rfl hd_X5_lies (cxR (by decide) (by decide))) rfl hl.1 rfl (Nat.le_of_ble_eq_true rfl) dX5_closes_60 ⟨Nat.le_refl _, Nat.le_refl _⟩ (fun H locs hM => ?_)
      refine e_iinc X hl 1 hE (fun v10 => [(2, vI v10), (0, .ref (ad 40))]) rfl dX5_closes_63 (by decide) (fun _ => rfl) (fun v10 hE ls hl => ?_)
      refine e_goto X dX5_closes_66 rfl ?_
      exact ih M9 v10 _ _ _ hE hM (lv_sub hl [1, 0] rfl) hk
theorem wb_X5_closes {p : Program} {l : Launch} {e : Env} {s : State} {m : MethodId} {args : Array Value} {below : List Frame} {meth : Method} {c : Code} {G : GG} {ad : Nat → Nat} {hp0 : HP} (X : CX p s m args meth c cX5_closes 3 RX5 none G) {N : Nat} {M : RM} {a1 : Int}   {out : RM} (hE : f_X5_closes N M a1 = some out) {H : Heap} {locs : List Loc} {ls : Array Slot} (hM : RW G dX5 ad hp0 M H locs) (hl : lv_has ls 3 [(0, .ref (ad 40)), (1, vI a1)]) : W p l e (rmD 1) s m args below meth c H locs 0 0 (QR below G dX5 ad hp0 args s none out) (F0 m 0 ls []) := by
  unfold f_X5_closes at hE
  refine e_aload_n X hl 0 rfl dX5_closes_0 rfl ?_
  refine r_getR X hM ck_X5 40 0 rfl rfl (by decide) q3034 rfl dX5_closes_1 ?_
  refine e_iconst X dX5_closes_4 ?_
  refine e_dup2 X dX5_closes_5 rfl rfl ?_
  refine r_iald X hM 0 rfl (Nat.le_of_ble_eq_true rfl) hE dX5_closes_6 (fun v1 hE => ?_)
  refine e_iconst X dX5_closes_7 ?_
  refine e_isub X dX5_closes_8 ?_
  refine r_iast X hM 0 rfl (Nat.le_of_ble_eq_true rfl) hE dX5_closes_9 (fun M2 hE H locs hM => ?_)
  refine e_iload_n X hl 1 rfl dX5_closes_10 rfl ?_
  refine e_istore_n X hl [(2, vI a1), (0, .ref (ad 40)), (1, vI a1)] dX5_closes_11 rfl (by decide) rfl (fun ls hl => ?_)
  refine wl_X5_closes_12 X _ M2 a1 _ _ _ hE hM (lv_sub hl [1, 0] rfl) (fun M11 v12 H locs ls hM hl hE => ?_)
  cases hE
  exact r_vret X hM dX5_closes_69
theorem met_X5_closes (l : Launch) (G : GG) (ad : Nat → Nat) (hp0 : HP) {N : Nat} (M : RM) (a1 : Int)  {out : RM} (hE : f_X5_closes N M a1 = some out) : MR l yX5_closes (ws_ yX5_closes cX5_closes 3 none) 1 G dX5 ad hp0 [.ref (ad 40), vI a1] M none out :=
  MR.of (by decide) (Nat.le_of_ble_eq_true rfl) rfl (fun p e s m below meth c ls X hM hl => wb_X5_closes X hE hM hl)
def f_X5_close (N : Nat) (M : RM) (a1 : Int) : Option (Int × RM) :=
  ob (f_X5_isRoad M a1) fun v1 => if ¬ w32 v1 = 0 then (ob (f_X5_keeps N M) fun M2 => ob (f_X5_closes N M2 a1) fun M3 => ob (gA 110 M3 0 1) fun v4 => some (v4, M3)) else (some ((-1), M))
theorem hd_X5_close : yX5_close.cls = RX5 ∧ yX5_close.cls ≠ "java/lang/invoke/MethodHandle" ∧ yX5_close.cls ≠ "java/lang/invoke/VarHandle" ∧ (parseMethodDescriptor yX5_close.desc).map (fun d => d.parameters.length) = some 1 := by decide +kernel
theorem wb_X5_close {p : Program} {l : Launch} {e : Env} {s : State} {m : MethodId} {args : Array Value} {below : List Frame} {meth : Method} {c : Code} {G : GG} {ad : Nat → Nat} {hp0 : HP} (X : CX p s m args meth c cX5_close 2 RX5 (some .int) G) {N : Nat} {M : RM} {a1 : Int}   {out : (Int × RM)} (hE : f_X5_close N M a1 = some out) {H : Heap} {locs : List Loc} {ls : Array Slot} (hM : RW G dX5 ad hp0 M H locs) (hl : lv_has ls 2 [(0, .ref (ad 40)), (1, vI a1)]) : W p l e (rmD 2) s m args below meth c H locs 0 0 (QR below G dX5 ad hp0 args s (some (vI out.1)) out.2) (F0 m 0 ls []) := by
  unfold f_X5_close at hE
  refine e_aload_n X hl 0 rfl dX5_close_0 rfl ?_
  refine e_iload_n X hl 1 rfl dX5_close_1 rfl ?_
  obtain ⟨v1, h, hE⟩ := ob_some hE
  refine r_callV1 X hM 40 rfl ck_X5 (rest := []) (met_X5_isRoad l G ad hp0 M a1 h) (cwV 1 X.ht (lw_V q3218 q3220 qs79 q170 q3221) rfl rfl rfl hd_X5_isRoad (cxR (by decide) (by decide))) rfl hl.1 rfl (Nat.le_of_ble_eq_true rfl) dX5_close_2 ⟨Nat.le_refl _, Nat.le_refl _⟩ (fun H locs hM => ?_)
  refine e_if_ne X (w32 v1) rfl hE dX5_close_5 rfl (fun hE => ?_) (fun hE => ?_)
  · refine e_aload_n X hl 0 rfl dX5_close_10 rfl ?_
    obtain ⟨M2, h, hE⟩ := ob_some hE
    refine r_callV0 X hM 40 rfl ck_X5 (rest := []) (met_X5_keeps l G ad hp0 M h) (cwV 0 X.ht (lw_V q3175 q3177 qs73 q170 q3178) rfl rfl rfl hd_X5_keeps (cxR (by decide) (by decide))) rfl hl.1 rfl (Nat.le_of_ble_eq_true rfl) dX5_close_11 ⟨Nat.le_refl _, Nat.le_refl _⟩ (fun H locs hM => ?_)
    refine e_aload_n X hl 0 rfl dX5_close_14 rfl ?_
    refine e_iload_n X hl 1 rfl dX5_close_15 rfl ?_
    obtain ⟨M3, h, hE⟩ := ob_some hE
    refine r_callV0 X hM 40 rfl ck_X5 (rest := []) (met_X5_closes l G ad hp0 M2 a1 h) (cwV 1 X.ht (lw_V q3234 q3236 qs82 q170 q3237) rfl rfl rfl hd_X5_closes (cxR (by decide) (by decide))) rfl hl.1 rfl (Nat.le_of_ble_eq_true rfl) dX5_close_16 ⟨Nat.le_refl _, Nat.le_refl _⟩ (fun H locs hM => ?_)
    refine e_aload_n X hl 0 rfl dX5_close_19 rfl ?_
    refine r_getR X hM ck_X5 40 0 rfl rfl (by decide) q3034 rfl dX5_close_20 ?_
    refine e_iconst X dX5_close_23 ?_
    refine r_iald X hM 0 rfl (Nat.le_of_ble_eq_true rfl) hE dX5_close_24 (fun v4 hE => ?_)
    cases hE
    exact r_zret X hM rfl dX5_close_25
  · refine e_iconst X dX5_close_8 ?_
    cases hE
    exact r_zret (x := (-1)) X hM rfl dX5_close_9
theorem met_X5_close (l : Launch) (G : GG) (ad : Nat → Nat) (hp0 : HP) {N : Nat} (M : RM) (a1 : Int)  {out : (Int × RM)} (hE : f_X5_close N M a1 = some out) : MR l yX5_close (ws_ yX5_close cX5_close 2 (some .int)) 2 G dX5 ad hp0 [.ref (ad 40), vI a1] M (some (vI out.1)) out.2 :=
  MR.of (by decide) (Nat.le_of_ble_eq_true rfl) rfl (fun p e s m below meth c ls X hM hl => wb_X5_close X hE hM hl)
def f_X5_of (M0 : RM) (a1 : Int) (a2 : Int) : Option Int :=
  ob (f_X5_isRoad M0 a1) fun v1 => if ¬ w32 v1 = 0 then (if w32 a2 = 0 then (ob (f_X5_from M0 a1) fun v2 => some (w32 v2)) else if w32 a2 = 1 then (ob (f_X5_to M0 a1) fun v3 => some (w32 v3)) else if w32 a2 = 2 then (ob (f_X5_low M0 a1) fun v4 => some (w32 v4)) else if w32 a2 = 3 then (ob (f_X5_most M0 a1) fun v5 => some (w32 v5)) else if w32 a2 = 4 then (ob (gA 25 M0 1 a1) fun v6 => some v6) else (some (-9223372036854775808))) else (some (-9223372036854775808))
theorem hd_X5_of : yX5_of.cls = RX5 ∧ yX5_of.cls ≠ "java/lang/invoke/MethodHandle" ∧ yX5_of.cls ≠ "java/lang/invoke/VarHandle" ∧ (parseMethodDescriptor yX5_of.desc).map (fun d => d.parameters.length) = some 2 := by decide +kernel
theorem wb_X5_of {p : Program} {l : Launch} {e : Env} {s : State} {m : MethodId} {args : Array Value} {below : List Frame} {meth : Method} {c : Code} {G : GG} {ad : Nat → Nat} {hp0 : HP} {M0 : RM} (X : CX p s m args meth c cX5_of 3 RX5 (some .long) G) {a1 : Int} {a2 : Int}   {out : Int} (hE : f_X5_of M0 a1 a2 = some out) {H : Heap} {locs : List Loc} {ls : Array Slot} (hM : RW G dX5 ad hp0 M0 H locs) (hl : lv_has ls 3 [(0, .ref (ad 40)), (1, vI a1), (2, vI a2)]) : W p l e (rmD 2) s m args below meth c H locs 0 0 (QR below G dX5 ad hp0 args s (some (vL out)) M0) (F0 m 0 ls []) := by
  unfold f_X5_of at hE
  refine e_aload_n X hl 0 rfl dX5_of_0 rfl ?_
  refine e_iload_n X hl 1 rfl dX5_of_1 rfl ?_
  obtain ⟨v1, h, hE⟩ := ob_some hE
  refine r_callV1 X hM 40 rfl ck_X5 (rest := []) (met_X5_isRoad l G ad hp0 M0 a1 h) (cwV 1 X.ht (lw_V q3218 q3220 qs79 q170 q3221) rfl rfl rfl hd_X5_isRoad (cxR (by decide) (by decide))) rfl hl.1 rfl (Nat.le_of_ble_eq_true rfl) dX5_of_2 ⟨Nat.le_refl _, Nat.le_refl _⟩ (fun H locs hM => ?_)
  refine e_if_ne X (w32 v1) rfl hE dX5_of_5 rfl (fun hE => ?_) (fun hE => ?_)
  · refine e_iload_n X hl 2 rfl dX5_of_12 rfl ?_
    refine e_case hE (fun h hE => ?_) (fun h0 hE => ?_)
    · refine e_tin X 0 h dX5_of_13 (by decide) (by decide) rfl rfl ?_
      refine e_aload_n X hl 0 rfl dX5_of_48 rfl ?_
      refine e_iload_n X hl 1 rfl dX5_of_49 rfl ?_
      obtain ⟨v2, h, hE⟩ := ob_some hE
      refine r_callV1 X hM 40 rfl ck_X5 (rest := []) (met_X5_from l G ad hp0 M0 a1 h) (cwV 1 X.ht (lw_V q3222 q3224 qs80 q170 q3225) rfl rfl rfl hd_X5_from (cxR (by decide) (by decide))) rfl hl.1 rfl (Nat.le_of_ble_eq_true rfl) dX5_of_50 ⟨Nat.le_refl _, Nat.le_refl _⟩ (fun H locs hM => ?_)
      refine e_i2l X dX5_of_53 ?_
      cases hE
      exact r_lret X hM dX5_of_54
    refine e_case hE (fun h hE => ?_) (fun h1 hE => ?_)
    · refine e_tin X 1 h dX5_of_13 (by decide) (by decide) rfl rfl ?_
      refine e_aload_n X hl 0 rfl dX5_of_55 rfl ?_
      refine e_iload_n X hl 1 rfl dX5_of_56 rfl ?_
      obtain ⟨v3, h, hE⟩ := ob_some hE
      refine r_callV1 X hM 40 rfl ck_X5 (rest := []) (met_X5_to l G ad hp0 M0 a1 h) (cwV 1 X.ht (lw_V q3226 q3228 qs81 q170 q3229) rfl rfl rfl hd_X5_to (cxR (by decide) (by decide))) rfl hl.1 rfl (Nat.le_of_ble_eq_true rfl) dX5_of_57 ⟨Nat.le_refl _, Nat.le_refl _⟩ (fun H locs hM => ?_)
      refine e_i2l X dX5_of_60 ?_
      cases hE
      exact r_lret X hM dX5_of_61
    refine e_case hE (fun h hE => ?_) (fun h2 hE => ?_)
    · refine e_tin X 2 h dX5_of_13 (by decide) (by decide) rfl rfl ?_
      refine e_aload_n X hl 0 rfl dX5_of_62 rfl ?_
      refine e_iload_n X hl 1 rfl dX5_of_63 rfl ?_
      obtain ⟨v4, h, hE⟩ := ob_some hE
      refine r_callV1 X hM 40 rfl ck_X5 (rest := []) (met_X5_low l G ad hp0 M0 a1 h) (cwV 1 X.ht (lw_V q3238 q3240 qs83 q170 q3241) rfl rfl rfl hd_X5_low (cxR (by decide) (by decide))) rfl hl.1 rfl (Nat.le_of_ble_eq_true rfl) dX5_of_64 ⟨Nat.le_refl _, Nat.le_refl _⟩ (fun H locs hM => ?_)
      refine e_i2l X dX5_of_67 ?_
      cases hE
      exact r_lret X hM dX5_of_68
    refine e_case hE (fun h hE => ?_) (fun h3 hE => ?_)
    · refine e_tin X 3 h dX5_of_13 (by decide) (by decide) rfl rfl ?_
      refine e_aload_n X hl 0 rfl dX5_of_69 rfl ?_
      refine e_iload_n X hl 1 rfl dX5_of_70 rfl ?_
      obtain ⟨v5, h, hE⟩ := ob_some hE
      refine r_callV1 X hM 40 rfl ck_X5 (rest := []) (met_X5_most l G ad hp0 M0 a1 h) (cwV 1 X.ht (lw_V q3242 q3244 qs84 q170 q3245) rfl rfl rfl hd_X5_most (cxR (by decide) (by decide))) rfl hl.1 rfl (Nat.le_of_ble_eq_true rfl) dX5_of_71 ⟨Nat.le_refl _, Nat.le_refl _⟩ (fun H locs hM => ?_)
      refine e_i2l X dX5_of_74 ?_
      cases hE
      exact r_lret X hM dX5_of_75
    refine e_case hE (fun h hE => ?_) (fun h4 hE => ?_)
    · refine e_tin X 4 h dX5_of_13 (by decide) (by decide) rfl rfl ?_
      refine e_aload_n X hl 0 rfl dX5_of_76 rfl ?_
      refine r_getR X hM ck_X5 40 1 rfl rfl (by decide) q3035 rfl dX5_of_77 ?_
      refine e_iload_n X hl 1 rfl dX5_of_80 rfl ?_
      refine r_lald X hM 1 rfl (Nat.le_of_ble_eq_true rfl) hE dX5_of_81 (fun v6 hE => ?_)
      cases hE
      exact r_lret X hM dX5_of_82
    refine e_tout X dX5_of_13 (by omega) rfl ?_
    refine e_ldc2 X (-9223372036854775808) q3250 (by decide) dX5_of_83 ?_
    cases hE
    exact r_lret X hM dX5_of_86
  · refine e_ldc2 X (-9223372036854775808) q3250 (by decide) dX5_of_8 ?_
    cases hE
    exact r_lret X hM dX5_of_11
theorem met_X5_of (l : Launch) (G : GG) (ad : Nat → Nat) (hp0 : HP) (M0 : RM) (a1 : Int) (a2 : Int)  {out : Int} (hE : f_X5_of M0 a1 a2 = some out) : MR l yX5_of (ws_ yX5_of cX5_of 3 (some .long)) 2 G dX5 ad hp0 [.ref (ad 40), vI a1, vI a2] M0 (some (vL out)) M0 :=
  MR.of (by decide) (Nat.le_of_ble_eq_true rfl) rfl (fun p e s m below meth c ls X hM hl => wb_X5_of X hE hM hl)
def f_X5_feed (M : RM) (a1 : Int) : Option (Int × RM) :=
  ob (f_X5_in M (w32 a1) 1 127) fun v1 => if ¬ w32 v1 = 0 then (if ¬ w32 (M 40 8) = 120 then (jn (up2 M 40 8 ((M 40 8) + 1)) fun M2 => ob (sA 120 M2 9 (M 40 8) a1) fun M3 => some (M3 40 8, M3)) else (some ((-4), M))) else (some ((-2), M))
theorem hd_X5_feed : yX5_feed.cls = RX5 ∧ yX5_feed.cls ≠ "java/lang/invoke/MethodHandle" ∧ yX5_feed.cls ≠ "java/lang/invoke/VarHandle" ∧ (parseMethodDescriptor yX5_feed.desc).map (fun d => d.parameters.length) = some 1 := by decide +kernel
theorem wb_X5_feed {p : Program} {l : Launch} {e : Env} {s : State} {m : MethodId} {args : Array Value} {below : List Frame} {meth : Method} {c : Code} {G : GG} {ad : Nat → Nat} {hp0 : HP} (X : CX p s m args meth c cX5_feed 2 RX5 (some .int) G) {M : RM} {a1 : Int}   {out : (Int × RM)} (hE : f_X5_feed M a1 = some out) {H : Heap} {locs : List Loc} {ls : Array Slot} (hM : RW G dX5 ad hp0 M H locs) (hl : lv_has ls 2 [(0, .ref (ad 40)), (1, vI a1)]) : W p l e (rmD 1) s m args below meth c H locs 0 0 (QR below G dX5 ad hp0 args s (some (vI out.1)) out.2) (F0 m 0 ls []) := by
  unfold f_X5_feed at hE
  refine e_iload_n X hl 1 rfl dX5_feed_0 rfl ?_
  refine e_i2l X dX5_feed_1 ?_
  refine e_lconst X 1 dX5_feed_2 (by decide) ?_
  refine e_ldc2 X 127 q3255 (by decide) dX5_feed_3 ?_
  obtain ⟨v1, h, hE⟩ := ob_some hE
  refine r_callS1 X hM (rest := []) (met_X5_in l G ad hp0 M (w32 a1) 1 127 h) (va_cwS 3 X.ht (lw_S q3172 q3173 q170 q3174) rfl rfl rfl hd_X5_in (cxR (by decide) (by decide))) rfl hl.1 rfl (Nat.le_of_ble_eq_true rfl) dX5_feed_6 ⟨Nat.le_refl _, Nat.le_refl _⟩ (fun H locs hM => ?_)
  refine e_if_ne X (w32 v1) rfl hE dX5_feed_9 rfl (fun hE => ?_) (fun hE => ?_)
  · refine e_aload_n X hl 0 rfl dX5_feed_15 rfl ?_
    refine r_getI X hM ck_X5 40 8 rfl rfl (by decide) q3042 rfl dX5_feed_16 ?_
    refine e_bipush X dX5_feed_19 (by decide) ?_
    refine e_icmp_ne X (w32 (M 40 8)) 120 rfl (by decide) hE dX5_feed_21 rfl (fun hE => ?_) (fun hE => ?_)
    · refine e_aload_n X hl 0 rfl dX5_feed_27 rfl ?_
      refine r_getR X hM ck_X5 40 9 rfl rfl (by decide) q3043 rfl dX5_feed_28 ?_
      refine e_aload_n X hl 0 rfl dX5_feed_31 rfl ?_
      refine e_dup X dX5_feed_32 rfl ?_
      refine r_getI X hM ck_X5 40 8 rfl rfl (by decide) q3042 rfl dX5_feed_33 ?_
      refine e_dup_x1 X dX5_feed_36 rfl rfl ?_
      refine e_iconst X dX5_feed_37 ?_
      refine e_iadd X dX5_feed_38 ?_
      refine r_putI X hM ck_X5 40 8 rfl rfl (by decide) q3042 rfl rfl hE rfl dX5_feed_39 (fun M2 hE H locs hM => ?_)
      refine e_iload_n X hl 1 rfl dX5_feed_42 rfl ?_
      refine r_iast X hM 9 rfl (Nat.le_of_ble_eq_true rfl) hE dX5_feed_43 (fun M3 hE H locs hM => ?_)
      refine e_aload_n X hl 0 rfl dX5_feed_44 rfl ?_
      refine r_getI X hM ck_X5 40 8 rfl rfl (by decide) q3042 rfl dX5_feed_45 ?_
      cases hE
      exact r_zret X hM rfl dX5_feed_48
    · refine e_bipush X dX5_feed_24 (by decide) ?_
      cases hE
      exact r_zret (x := (-4)) X hM rfl dX5_feed_26
  · refine e_bipush X dX5_feed_12 (by decide) ?_
    cases hE
    exact r_zret (x := (-2)) X hM rfl dX5_feed_14
theorem met_X5_feed (l : Launch) (G : GG) (ad : Nat → Nat) (hp0 : HP) (M : RM) (a1 : Int)  {out : (Int × RM)} (hE : f_X5_feed M a1 = some out) : MR l yX5_feed (ws_ yX5_feed cX5_feed 2 (some .int)) 1 G dX5 ad hp0 [.ref (ad 40), vI a1] M (some (vI out.1)) out.2 :=
  MR.of (by decide) (Nat.le_of_ble_eq_true rfl) rfl (fun p e s m below meth c ls X hM hl => wb_X5_feed X hE hM hl)
def f_X5_clear (M : RM)  : Option (Int × RM) :=
  jn (M 40 8) fun v1 => jn (up2 M 40 8 0) fun M2 => some (v1, M2)
theorem hd_X5_clear : yX5_clear.cls = RX5 ∧ yX5_clear.cls ≠ "java/lang/invoke/MethodHandle" ∧ yX5_clear.cls ≠ "java/lang/invoke/VarHandle" ∧ (parseMethodDescriptor yX5_clear.desc).map (fun d => d.parameters.length) = some 0 := by decide +kernel
theorem wb_X5_clear {p : Program} {l : Launch} {e : Env} {s : State} {m : MethodId} {args : Array Value} {below : List Frame} {meth : Method} {c : Code} {G : GG} {ad : Nat → Nat} {hp0 : HP} (X : CX p s m args meth c cX5_clear 2 RX5 (some .int) G) {M : RM}   {out : (Int × RM)} (hE : f_X5_clear M = some out) {H : Heap} {locs : List Loc} {ls : Array Slot} (hM : RW G dX5 ad hp0 M H locs) (hl : lv_has ls 2 [(0, .ref (ad 40))]) : W p l e (rmD 0) s m args below meth c H locs 0 0 (QR below G dX5 ad hp0 args s (some (vI out.1)) out.2) (F0 m 0 ls []) := by
  unfold f_X5_clear at hE
  refine e_aload_n X hl 0 rfl dX5_clear_0 rfl ?_
  refine r_getI X hM ck_X5 40 8 rfl rfl (by decide) q3042 rfl dX5_clear_1 ?_
  refine e_top hE (fun v1 hE => ?_)
  refine e_istore_n X hl [(1, vI v1), (0, .ref (ad 40))] dX5_clear_4 rfl (by decide) rfl (fun ls hl => ?_)
  refine e_aload_n X hl 1 rfl dX5_clear_5 rfl ?_
  refine e_iconst X dX5_clear_6 ?_
  refine r_putI X hM ck_X5 40 8 rfl rfl (by decide) q3042 rfl rfl hE rfl dX5_clear_7 (fun M2 hE H locs hM => ?_)
  refine e_iload_n X hl 0 rfl dX5_clear_10 rfl ?_
  cases hE
  exact r_zret X hM rfl dX5_clear_11
theorem met_X5_clear (l : Launch) (G : GG) (ad : Nat → Nat) (hp0 : HP) (M : RM)   {out : (Int × RM)} (hE : f_X5_clear M = some out) : MR l yX5_clear (ws_ yX5_clear cX5_clear 2 (some .int)) 0 G dX5 ad hp0 [.ref (ad 40)] M (some (vI out.1)) out.2 :=
  MR.of (by decide) (Nat.le_of_ble_eq_true rfl) rfl (fun p e s m below meth c ls X hM hl => wb_X5_clear X hE hM hl)
def f_X5_wrong (M : RM) (a1 : Int) : Option RM :=
  if 0 ≤ w32 (M 40 20) then (some M) else (jn (up2 M 40 20 a1) fun M1 => some M1)
theorem hd_X5_wrong : yX5_wrong.cls = RX5 ∧ yX5_wrong.cls ≠ "java/lang/invoke/MethodHandle" ∧ yX5_wrong.cls ≠ "java/lang/invoke/VarHandle" ∧ (parseMethodDescriptor yX5_wrong.desc).map (fun d => d.parameters.length) = some 1 := by decide +kernel
theorem wb_X5_wrong {p : Program} {l : Launch} {e : Env} {s : State} {m : MethodId} {args : Array Value} {below : List Frame} {meth : Method} {c : Code} {G : GG} {ad : Nat → Nat} {hp0 : HP} (X : CX p s m args meth c cX5_wrong 2 RX5 none G) {M : RM} {a1 : Int}   {out : RM} (hE : f_X5_wrong M a1 = some out) {H : Heap} {locs : List Loc} {ls : Array Slot} (hM : RW G dX5 ad hp0 M H locs) (hl : lv_has ls 2 [(0, .ref (ad 40)), (1, vI a1)]) : W p l e (rmD 0) s m args below meth c H locs 0 0 (QR below G dX5 ad hp0 args s none out) (F0 m 0 ls []) := by
  unfold f_X5_wrong at hE
  refine e_aload_n X hl 0 rfl dX5_wrong_0 rfl ?_
  refine r_getI X hM ck_X5 40 20 rfl rfl (by decide) q3054 rfl dX5_wrong_1 ?_
  refine e_if_ge X (w32 (M 40 20)) rfl hE dX5_wrong_4 rfl (fun hE => ?_) (fun hE => ?_)
  · cases hE
    exact r_vret X hM dX5_wrong_12
  · refine e_aload_n X hl 0 rfl dX5_wrong_7 rfl ?_
    refine e_iload_n X hl 1 rfl dX5_wrong_8 rfl ?_
    refine r_putI X hM ck_X5 40 20 rfl rfl (by decide) q3054 rfl rfl hE rfl dX5_wrong_9 (fun M1 hE H locs hM => ?_)
    cases hE
    exact r_vret X hM dX5_wrong_12
theorem met_X5_wrong (l : Launch) (G : GG) (ad : Nat → Nat) (hp0 : HP) (M : RM) (a1 : Int)  {out : RM} (hE : f_X5_wrong M a1 = some out) : MR l yX5_wrong (ws_ yX5_wrong cX5_wrong 2 none) 0 G dX5 ad hp0 [.ref (ad 40), vI a1] M none out :=
  MR.of (by decide) (Nat.le_of_ble_eq_true rfl) rfl (fun p e s m below meth c ls X hM hl => wb_X5_wrong X hE hM hl)
def f_X5_isFigure (M0 : RM)  : Option Int :=
  if 0 ≤ w32 (M0 40 20) then (some 0) else (if w32 (M0 40 8) ≤ w32 (M0 40 19) then (some 0) else (ob (gA 120 M0 9 (M0 40 19)) fun v1 => ob (f_X5_in M0 (w32 v1) 48 57) fun v2 => if w32 v2 = 0 then (some 0) else (some 1)))
theorem hd_X5_isFigure : yX5_isFigure.cls = RX5 ∧ yX5_isFigure.cls ≠ "java/lang/invoke/MethodHandle" ∧ yX5_isFigure.cls ≠ "java/lang/invoke/VarHandle" ∧ (parseMethodDescriptor yX5_isFigure.desc).map (fun d => d.parameters.length) = some 0 := by decide +kernel
theorem wb_X5_isFigure {p : Program} {l : Launch} {e : Env} {s : State} {m : MethodId} {args : Array Value} {below : List Frame} {meth : Method} {c : Code} {G : GG} {ad : Nat → Nat} {hp0 : HP} {M0 : RM} (X : CX p s m args meth c cX5_isFigure 1 RX5 (some .boolean) G)   {out : Int} (hE : f_X5_isFigure M0 = some out) {H : Heap} {locs : List Loc} {ls : Array Slot} (hM : RW G dX5 ad hp0 M0 H locs) (hl : lv_has ls 1 [(0, .ref (ad 40))]) : W p l e (rmD 1) s m args below meth c H locs 0 0 (QR below G dX5 ad hp0 args s (some (vI out)) M0) (F0 m 0 ls []) := by
  unfold f_X5_isFigure at hE
  refine e_aload_n X hl 0 rfl dX5_isFigure_0 rfl ?_
  refine r_getI X hM ck_X5 40 20 rfl rfl (by decide) q3054 rfl dX5_isFigure_1 ?_
  refine e_if_ge X (w32 (M0 40 20)) rfl hE dX5_isFigure_4 rfl (fun hE => ?_) (fun hE => ?_)
  · refine e_iconst X dX5_isFigure_44 ?_
    cases hE
    exact r_zret (x := 0) X hM rfl dX5_isFigure_45
  · refine e_aload_n X hl 0 rfl dX5_isFigure_7 rfl ?_
    refine r_getI X hM ck_X5 40 19 rfl rfl (by decide) q3053 rfl dX5_isFigure_8 ?_
    refine e_aload_n X hl 0 rfl dX5_isFigure_11 rfl ?_
    refine r_getI X hM ck_X5 40 8 rfl rfl (by decide) q3042 rfl dX5_isFigure_12 ?_
    refine e_icmp_ge X (w32 (M0 40 19)) (w32 (M0 40 8)) rfl rfl hE dX5_isFigure_15 rfl (fun hE => ?_) (fun hE => ?_)
    · refine e_iconst X dX5_isFigure_44 ?_
      cases hE
      exact r_zret (x := 0) X hM rfl dX5_isFigure_45
    · refine e_aload_n X hl 0 rfl dX5_isFigure_18 rfl ?_
      refine r_getR X hM ck_X5 40 9 rfl rfl (by decide) q3043 rfl dX5_isFigure_19 ?_
      refine e_aload_n X hl 0 rfl dX5_isFigure_22 rfl ?_
      refine r_getI X hM ck_X5 40 19 rfl rfl (by decide) q3053 rfl dX5_isFigure_23 ?_
      refine r_iald X hM 9 rfl (Nat.le_of_ble_eq_true rfl) hE dX5_isFigure_26 (fun v1 hE => ?_)
      refine e_i2l X dX5_isFigure_27 ?_
      refine e_ldc2 X 48 q3288 (by decide) dX5_isFigure_28 ?_
      refine e_ldc2 X 57 q3289 (by decide) dX5_isFigure_31 ?_
      obtain ⟨v2, h, hE⟩ := ob_some hE
      refine r_callS1 X hM (rest := []) (met_X5_in l G ad hp0 M0 (w32 v1) 48 57 h) (va_cwS 3 X.ht (lw_S q3172 q3173 q170 q3174) rfl rfl rfl hd_X5_in (cxR (by decide) (by decide))) rfl hl.1 rfl (Nat.le_of_ble_eq_true rfl) dX5_isFigure_34 ⟨Nat.le_refl _, Nat.le_refl _⟩ (fun H locs hM => ?_)
      refine e_if_eq X (w32 v2) rfl hE dX5_isFigure_37 rfl (fun hE => ?_) (fun hE => ?_)
      · refine e_iconst X dX5_isFigure_44 ?_
        cases hE
        exact r_zret (x := 0) X hM rfl dX5_isFigure_45
      · refine e_iconst X dX5_isFigure_40 ?_
        refine e_goto X dX5_isFigure_41 rfl ?_
        cases hE
        exact r_zret (x := 1) X hM rfl dX5_isFigure_45
theorem met_X5_isFigure (l : Launch) (G : GG) (ad : Nat → Nat) (hp0 : HP) (M0 : RM)   {out : Int} (hE : f_X5_isFigure M0 = some out) : MR l yX5_isFigure (ws_ yX5_isFigure cX5_isFigure 1 (some .boolean)) 1 G dX5 ad hp0 [.ref (ad 40)] M0 (some (vI out)) M0 :=
  MR.of (by decide) (Nat.le_of_ble_eq_true rfl) rfl (fun p e s m below meth c ls X hM hl => wb_X5_isFigure X hE hM hl)
def f_X5_number_L7 (N : Nat) (b1 : Int) (b2 : Int) (k : RM → Int → Option (Int × RM)) : Nat → RM → Int → Option (Int × RM)
  | 0, _, _ => none
  | n + 1, M, x3 =>
    if w32 (b2 + b1) ≤ w32 (M 40 19) then (k M x3) else (ob (f_X5_isFigure M) fun v2 => if w32 v2 = 0 then (k M x3) else (jn (up2 M 40 19 ((M 40 19) + 1)) fun M3 => ob (gA 120 M3 9 (M 40 19)) fun v4 => jn (((10 * x3) + v4) - 48) fun v5 => f_X5_number_L7 N b1 b2 k n M3 v5))
def f_X5_number (N : Nat) (M : RM) (a1 : Int) : Option (Int × RM) :=
  jn (M 40 19) fun v1 => f_X5_number_L7 N a1 v1 (fun (M6 : RM) (v7 : Int) => if ¬ w32 (M6 40 19) = w32 v1 then (some (v7, M6)) else (ob (f_X5_wrong M6 (M6 40 19)) fun M8 => some (v7, M8))) N M 0
theorem hd_X5_number : yX5_number.cls = RX5 ∧ yX5_number.cls ≠ "java/lang/invoke/MethodHandle" ∧ yX5_number.cls ≠ "java/lang/invoke/VarHandle" ∧ (parseMethodDescriptor yX5_number.desc).map (fun d => d.parameters.length) = some 1 := by decide +kernel
theorem wl_X5_number_7 {p : Program} {l : Launch} {e : Env} {s : State} {m : MethodId} {args : Array Value} {below : List Frame} {meth : Method} {c : Code} {G : GG} {ad : Nat → Nat} {hp0 : HP} (X : CX p s m args meth c cX5_number 4 RX5 (some .int) G) {N : Nat} {b1 : Int} {b2 : Int}  {k : RM → Int → Option (Int × RM)} {out : (Int × RM)} : ∀ (n : Nat) (M : RM) (x3 : Int) (H : Heap) (locs : List Loc) (ls : Array Slot) (hE : f_X5_number_L7 N b1 b2 k n M x3 = some out) (hM : RW G dX5 ad hp0 M H locs) (hl : lv_has ls 4 [(0, .ref (ad 40)), (1, vI b1), (2, vI b2), (3, vI x3)]) (hk : ∀ (M : RM) (x3 : Int) (H : Heap) (locs : List Loc) (ls : Array Slot), RW G dX5 ad hp0 M H locs → lv_has ls 4 [(0, .ref (ad 40)), (1, vI b1), (2, vI b2), (3, vI x3)] → k M x3 = some out → W p l e (rmD 2) s m args below meth c H locs 0 0 (QR below G dX5 ad hp0 args s (some (vI out.1)) out.2) (F0 m 52 ls [])), W p l e (rmD 2) s m args below meth c H locs 0 0 (QR below G dX5 ad hp0 args s (some (vI out.1)) out.2) (F0 m 7 ls []) := by
  intro n
  induction n with
  | zero =>
    intro M x3 H locs ls hE hM hl hk
    unfold f_X5_number_L7 at hE
    cases hE
  | succ n ih =>
    intro M x3 H locs ls hE hM hl hk
    unfold f_X5_number_L7 at hE
    refine e_aload_n X hl 0 rfl dX5_number_7 rfl ?_
    refine r_getI X hM ck_X5 40 19 rfl rfl (by decide) q3053 rfl dX5_number_8 ?_
    refine e_iload_n X hl 2 rfl dX5_number_11 rfl ?_
    refine e_iload_n X hl 1 rfl dX5_number_12 rfl ?_
    refine e_iadd X dX5_number_13 ?_
    refine e_icmp_ge X (w32 (M 40 19)) (w32 (b2 + b1)) rfl rfl hE dX5_number_14 rfl (fun hE => ?_) (fun hE => ?_)
    · exact hk M x3 _ _ _ hM (lv_sub hl [0, 1, 2, 3] rfl) hE
    · refine e_aload_n X hl 0 rfl dX5_number_17 rfl ?_
      obtain ⟨v2, h, hE⟩ := ob_some hE
      refine r_callV1 X hM 40 rfl ck_X5 (rest := []) (met_X5_isFigure l G ad hp0 M h) (cwV 0 X.ht (lw_V q3284 q3286 qs90 q170 q3287) rfl rfl rfl hd_X5_isFigure (cxR (by decide) (by decide))) rfl hl.1 rfl (Nat.le_of_ble_eq_true rfl) dX5_number_18 ⟨Nat.le_refl _, Nat.le_refl _⟩ (fun H locs hM => ?_)
      refine e_if_eq X (w32 v2) rfl hE dX5_number_21 rfl (fun hE => ?_) (fun hE => ?_)
      · exact hk M x3 _ _ _ hM (lv_sub hl [0, 1, 2, 3] rfl) hE
      · refine e_bipush X dX5_number_24 (by decide) ?_
        refine e_iload_n X hl 3 rfl dX5_number_26 rfl ?_
        refine e_imul X dX5_number_27 ?_
        refine e_aload_n X hl 0 rfl dX5_number_28 rfl ?_
        refine r_getR X hM ck_X5 40 9 rfl rfl (by decide) q3043 rfl dX5_number_29 ?_
        refine e_aload_n X hl 0 rfl dX5_number_32 rfl ?_
        refine e_dup X dX5_number_33 rfl ?_
        refine r_getI X hM ck_X5 40 19 rfl rfl (by decide) q3053 rfl dX5_number_34 ?_
        refine e_dup_x1 X dX5_number_37 rfl rfl ?_
        refine e_iconst X dX5_number_38 ?_
        refine e_iadd X dX5_number_39 ?_
        refine r_putI X hM ck_X5 40 19 rfl rfl (by decide) q3053 rfl rfl hE rfl dX5_number_40 (fun M3 hE H locs hM => ?_)
        refine r_iald X hM 9 rfl (Nat.le_of_ble_eq_true rfl) hE dX5_number_43 (fun v4 hE => ?_)
        refine e_iadd X dX5_number_44 ?_
        refine e_bipush X dX5_number_45 (by decide) ?_
        refine e_isub X dX5_number_47 ?_
        refine e_top hE (fun v5 hE => ?_)
        refine e_istore_n X hl [(3, vI v5), (0, .ref (ad 40)), (1, vI b1), (2, vI b2)] dX5_number_48 rfl (by decide) rfl (fun ls hl => ?_)
        refine e_goto X dX5_number_49 rfl ?_
        exact ih M3 v5 _ _ _ hE hM (lv_sub hl [1, 2, 3, 0] rfl) hk
theorem wb_X5_number {p : Program} {l : Launch} {e : Env} {s : State} {m : MethodId} {args : Array Value} {below : List Frame} {meth : Method} {c : Code} {G : GG} {ad : Nat → Nat} {hp0 : HP} (X : CX p s m args meth c cX5_number 4 RX5 (some .int) G) {N : Nat} {M : RM} {a1 : Int}   {out : (Int × RM)} (hE : f_X5_number N M a1 = some out) {H : Heap} {locs : List Loc} {ls : Array Slot} (hM : RW G dX5 ad hp0 M H locs) (hl : lv_has ls 4 [(0, .ref (ad 40)), (1, vI a1)]) : W p l e (rmD 2) s m args below meth c H locs 0 0 (QR below G dX5 ad hp0 args s (some (vI out.1)) out.2) (F0 m 0 ls []) := by
  unfold f_X5_number at hE
  refine e_aload_n X hl 0 rfl dX5_number_0 rfl ?_
  refine r_getI X hM ck_X5 40 19 rfl rfl (by decide) q3053 rfl dX5_number_1 ?_
  refine e_top hE (fun v1 hE => ?_)
  refine e_istore_n X hl [(2, vI v1), (0, .ref (ad 40)), (1, vI a1)] dX5_number_4 rfl (by decide) rfl (fun ls hl => ?_)
  refine e_iconst X dX5_number_5 ?_
  refine e_istore_n X hl [(3, vI 0), (2, vI v1), (0, .ref (ad 40)), (1, vI a1)] dX5_number_6 rfl (by decide) rfl (fun ls hl => ?_)
  refine wl_X5_number_7 X _ M 0 _ _ _ hE hM (lv_sub hl [2, 3, 1, 0] rfl) (fun M6 v7 H locs ls hM hl hE => ?_)
  refine e_aload_n X hl 0 rfl dX5_number_52 rfl ?_
  refine r_getI X hM ck_X5 40 19 rfl rfl (by decide) q3053 rfl dX5_number_53 ?_
  refine e_iload_n X hl 2 rfl dX5_number_56 rfl ?_
  refine e_icmp_ne X (w32 (M6 40 19)) (w32 v1) rfl rfl hE dX5_number_57 rfl (fun hE => ?_) (fun hE => ?_)
  · refine e_iload_n X hl 3 rfl dX5_number_68 rfl ?_
    cases hE
    exact r_zret X hM rfl dX5_number_69
  · refine e_aload_n X hl 0 rfl dX5_number_60 rfl ?_
    refine e_aload_n X hl 0 rfl dX5_number_61 rfl ?_
    refine r_getI X hM ck_X5 40 19 rfl rfl (by decide) q3053 rfl dX5_number_62 ?_
    obtain ⟨M8, h, hE⟩ := ob_some hE
    refine r_callV0 X hM 40 rfl ck_X5 (rest := []) (met_X5_wrong l G ad hp0 M6 (M6 40 19) h) (cwV 1 X.ht (lw_V q3272 q3274 qs87 q170 q3275) rfl rfl rfl hd_X5_wrong (cxR (by decide) (by decide))) rfl hl.1 rfl (Nat.le_of_ble_eq_true rfl) dX5_number_65 ⟨Nat.le_refl _, Nat.le_refl _⟩ (fun H locs hM => ?_)
    refine e_iload_n X hl 3 rfl dX5_number_68 rfl ?_
    cases hE
    exact r_zret X hM rfl dX5_number_69
theorem met_X5_number (l : Launch) (G : GG) (ad : Nat → Nat) (hp0 : HP) {N : Nat} (M : RM) (a1 : Int)  {out : (Int × RM)} (hE : f_X5_number N M a1 = some out) : MR l yX5_number (ws_ yX5_number cX5_number 4 (some .int)) 2 G dX5 ad hp0 [.ref (ad 40), vI a1] M (some (vI out.1)) out.2 :=
  MR.of (by decide) (Nat.le_of_ble_eq_true rfl) rfl (fun p e s m below meth c ls X hM hl => wb_X5_number X hE hM hl)
def f_X5_town (N : Nat) (M : RM) (a1 : Int) : Option (Int × RM) :=
  jn (M 40 19) fun v1 => ob2 (f_X5_number N M 1) fun v2 M3 => ob (f_X5_isTown M3 v2) fun v4 => if w32 v4 = 0 then (ob (f_X5_wrong M3 v1) fun M5 => some (v2, M5)) else (if ¬ w32 v2 = w32 a1 then (some (v2, M3)) else (ob (f_X5_wrong M3 v1) fun M6 => some (v2, M6)))
theorem hd_X5_town : yX5_town.cls = RX5 ∧ yX5_town.cls ≠ "java/lang/invoke/MethodHandle" ∧ yX5_town.cls ≠ "java/lang/invoke/VarHandle" ∧ (parseMethodDescriptor yX5_town.desc).map (fun d => d.parameters.length) = some 1 := by decide +kernel
theorem wb_X5_town {p : Program} {l : Launch} {e : Env} {s : State} {m : MethodId} {args : Array Value} {below : List Frame} {meth : Method} {c : Code} {G : GG} {ad : Nat → Nat} {hp0 : HP} (X : CX p s m args meth c cX5_town 4 RX5 (some .int) G) {N : Nat} {M : RM} {a1 : Int}   {out : (Int × RM)} (hE : f_X5_town N M a1 = some out) {H : Heap} {locs : List Loc} {ls : Array Slot} (hM : RW G dX5 ad hp0 M H locs) (hl : lv_has ls 4 [(0, .ref (ad 40)), (1, vI a1)]) : W p l e (rmD 3) s m args below meth c H locs 0 0 (QR below G dX5 ad hp0 args s (some (vI out.1)) out.2) (F0 m 0 ls []) := by
  unfold f_X5_town at hE
  refine e_aload_n X hl 0 rfl dX5_town_0 rfl ?_
  refine r_getI X hM ck_X5 40 19 rfl rfl (by decide) q3053 rfl dX5_town_1 ?_
  refine e_top hE (fun v1 hE => ?_)
  refine e_istore_n X hl [(2, vI v1), (0, .ref (ad 40)), (1, vI a1)] dX5_town_4 rfl (by decide) rfl (fun ls hl => ?_)
  refine e_aload_n X hl 1 rfl dX5_town_5 rfl ?_
  refine e_iconst X dX5_town_6 ?_
  obtain ⟨v2, M3, h, hE⟩ := ob2_some hE
  refine r_callV1 X hM 40 rfl ck_X5 (rest := []) (met_X5_number l G ad hp0 M 1 h) (cwV 1 X.ht (lw_V q3280 q3282 qs89 q170 q3283) rfl rfl rfl hd_X5_number (cxR (by decide) (by decide))) rfl hl.1 rfl (Nat.le_of_ble_eq_true rfl) dX5_town_7 ⟨Nat.le_refl _, Nat.le_refl _⟩ (fun H locs hM => ?_)
  refine e_istore_n X hl [(3, vI v2), (2, vI v1), (0, .ref (ad 40)), (1, vI a1)] dX5_town_10 rfl (by decide) rfl (fun ls hl => ?_)
  refine e_aload_n X hl 2 rfl dX5_town_11 rfl ?_
  refine e_iload_n X hl 0 rfl dX5_town_12 rfl ?_
  obtain ⟨v4, h, hE⟩ := ob_some hE
  refine r_callV1 X hM 40 rfl ck_X5 (rest := []) (met_X5_isTown l G ad hp0 M3 v2 h) (cwV 1 X.ht (lw_V q3183 q3185 qs74 q170 q3186) rfl rfl rfl hd_X5_isTown (cxR (by decide) (by decide))) rfl hl.1 rfl (Nat.le_of_ble_eq_true rfl) dX5_town_13 ⟨Nat.le_refl _, Nat.le_refl _⟩ (fun H locs hM => ?_)
  refine e_if_eq X (w32 v4) rfl hE dX5_town_16 rfl (fun hE => ?_) (fun hE => ?_)
  · refine e_aload_n X hl 2 rfl dX5_town_24 rfl ?_
    refine e_iload_n X hl 1 rfl dX5_town_25 rfl ?_
    obtain ⟨M5, h, hE⟩ := ob_some hE
    refine r_callV0 X hM 40 rfl ck_X5 (rest := []) (met_X5_wrong l G ad hp0 M3 v1 h) (cwV 1 X.ht (lw_V q3272 q3274 qs87 q170 q3275) rfl rfl rfl hd_X5_wrong (cxR (by decide) (by decide))) rfl hl.1 rfl (Nat.le_of_ble_eq_true rfl) dX5_town_26 ⟨Nat.le_refl _, Nat.le_refl _⟩ (fun H locs hM => ?_)
    refine e_iload_n X hl 0 rfl dX5_town_29 rfl ?_
    cases hE
    exact r_zret X hM rfl dX5_town_30
  · refine e_iload_n X hl 0 rfl dX5_town_19 rfl ?_
    refine e_iload_n X hl 3 rfl dX5_town_20 rfl ?_
    refine e_icmp_ne X (w32 v2) (w32 a1) rfl rfl hE dX5_town_21 rfl (fun hE => ?_) (fun hE => ?_)
    · refine e_iload_n X hl 0 rfl dX5_town_29 rfl ?_
      cases hE
      exact r_zret X hM rfl dX5_town_30
    · refine e_aload_n X hl 2 rfl dX5_town_24 rfl ?_
      refine e_iload_n X hl 1 rfl dX5_town_25 rfl ?_
      obtain ⟨M6, h, hE⟩ := ob_some hE
      refine r_callV0 X hM 40 rfl ck_X5 (rest := []) (met_X5_wrong l G ad hp0 M3 v1 h) (cwV 1 X.ht (lw_V q3272 q3274 qs87 q170 q3275) rfl rfl rfl hd_X5_wrong (cxR (by decide) (by decide))) rfl hl.1 rfl (Nat.le_of_ble_eq_true rfl) dX5_town_26 ⟨Nat.le_refl _, Nat.le_refl _⟩ (fun H locs hM => ?_)
      refine e_iload_n X hl 0 rfl dX5_town_29 rfl ?_
      cases hE
      exact r_zret X hM rfl dX5_town_30
theorem met_X5_town (l : Launch) (G : GG) (ad : Nat → Nat) (hp0 : HP) {N : Nat} (M : RM) (a1 : Int)  {out : (Int × RM)} (hE : f_X5_town N M a1 = some out) : MR l yX5_town (ws_ yX5_town cX5_town 4 (some .int)) 3 G dX5 ad hp0 [.ref (ad 40), vI a1] M (some (vI out.1)) out.2 :=
  MR.of (by decide) (Nat.le_of_ble_eq_true rfl) rfl (fun p e s m below meth c ls X hM hl => wb_X5_town X hE hM hl)
def f_X5_is (M : RM) (a1 : Int) : Option (Int × RM) :=
  if 0 ≤ w32 (M 40 20) then (some (0, M)) else (if w32 (M 40 8) ≤ w32 (M 40 19) then (some (0, M)) else (ob (gA 120 M 9 (M 40 19)) fun v1 => if w32 v1 = w32 a1 then (jn (up2 M 40 19 ((M 40 19) + 1)) fun M2 => some (1, M2)) else (some (0, M))))
theorem hd_X5_is : yX5_is.cls = RX5 ∧ yX5_is.cls ≠ "java/lang/invoke/MethodHandle" ∧ yX5_is.cls ≠ "java/lang/invoke/VarHandle" ∧ (parseMethodDescriptor yX5_is.desc).map (fun d => d.parameters.length) = some 1 := by decide +kernel
theorem wb_X5_is {p : Program} {l : Launch} {e : Env} {s : State} {m : MethodId} {args : Array Value} {below : List Frame} {meth : Method} {c : Code} {G : GG} {ad : Nat → Nat} {hp0 : HP} (X : CX p s m args meth c cX5_is 2 RX5 (some .boolean) G) {M : RM} {a1 : Int}   {out : (Int × RM)} (hE : f_X5_is M a1 = some out) {H : Heap} {locs : List Loc} {ls : Array Slot} (hM : RW G dX5 ad hp0 M H locs) (hl : lv_has ls 2 [(0, .ref (ad 40)), (1, vI a1)]) : W p l e (rmD 0) s m args below meth c H locs 0 0 (QR below G dX5 ad hp0 args s (some (vI out.1)) out.2) (F0 m 0 ls []) := by
  unfold f_X5_is at hE
  refine e_aload_n X hl 0 rfl dX5_is_0 rfl ?_
  refine r_getI X hM ck_X5 40 20 rfl rfl (by decide) q3054 rfl dX5_is_1 ?_
  refine e_if_ge X (w32 (M 40 20)) rfl hE dX5_is_4 rfl (fun hE => ?_) (fun hE => ?_)
  · refine e_iconst X dX5_is_31 ?_
    cases hE
    exact r_zret (x := 0) X hM rfl dX5_is_32
  · refine e_aload_n X hl 0 rfl dX5_is_7 rfl ?_
    refine r_getI X hM ck_X5 40 19 rfl rfl (by decide) q3053 rfl dX5_is_8 ?_
    refine e_aload_n X hl 0 rfl dX5_is_11 rfl ?_
    refine r_getI X hM ck_X5 40 8 rfl rfl (by decide) q3042 rfl dX5_is_12 ?_
    refine e_icmp_ge X (w32 (M 40 19)) (w32 (M 40 8)) rfl rfl hE dX5_is_15 rfl (fun hE => ?_) (fun hE => ?_)
    · refine e_iconst X dX5_is_31 ?_
      cases hE
      exact r_zret (x := 0) X hM rfl dX5_is_32
    · refine e_aload_n X hl 0 rfl dX5_is_18 rfl ?_
      refine r_getR X hM ck_X5 40 9 rfl rfl (by decide) q3043 rfl dX5_is_19 ?_
      refine e_aload_n X hl 0 rfl dX5_is_22 rfl ?_
      refine r_getI X hM ck_X5 40 19 rfl rfl (by decide) q3053 rfl dX5_is_23 ?_
      refine r_iald X hM 9 rfl (Nat.le_of_ble_eq_true rfl) hE dX5_is_26 (fun v1 hE => ?_)
      refine e_iload_n X hl 1 rfl dX5_is_27 rfl ?_
      refine e_icmp_eq X (w32 v1) (w32 a1) rfl rfl hE dX5_is_28 rfl (fun hE => ?_) (fun hE => ?_)
      · refine e_aload_n X hl 0 rfl dX5_is_33 rfl ?_
        refine e_dup X dX5_is_34 rfl ?_
        refine r_getI X hM ck_X5 40 19 rfl rfl (by decide) q3053 rfl dX5_is_35 ?_
        refine e_iconst X dX5_is_38 ?_
        refine e_iadd X dX5_is_39 ?_
        refine r_putI X hM ck_X5 40 19 rfl rfl (by decide) q3053 rfl rfl hE rfl dX5_is_40 (fun M2 hE H locs hM => ?_)
        refine e_iconst X dX5_is_43 ?_
        cases hE
        exact r_zret (x := 1) X hM rfl dX5_is_44
      · refine e_iconst X dX5_is_31 ?_
        cases hE
        exact r_zret (x := 0) X hM rfl dX5_is_32
theorem met_X5_is (l : Launch) (G : GG) (ad : Nat → Nat) (hp0 : HP) (M : RM) (a1 : Int)  {out : (Int × RM)} (hE : f_X5_is M a1 = some out) : MR l yX5_is (ws_ yX5_is cX5_is 2 (some .boolean)) 0 G dX5 ad hp0 [.ref (ad 40), vI a1] M (some (vI out.1)) out.2 :=
  MR.of (by decide) (Nat.le_of_ble_eq_true rfl) rfl (fun p e s m below meth c ls X hM hl => wb_X5_is X hE hM hl)
def f_X5_needs (M : RM) (a1 : Int) : Option RM :=
  ob2 (f_X5_is M a1) fun v1 M2 => if ¬ w32 v1 = 0 then (some M2) else (ob (f_X5_wrong M2 (M2 40 19)) fun M3 => some M3)
theorem hd_X5_needs : yX5_needs.cls = RX5 ∧ yX5_needs.cls ≠ "java/lang/invoke/MethodHandle" ∧ yX5_needs.cls ≠ "java/lang/invoke/VarHandle" ∧ (parseMethodDescriptor yX5_needs.desc).map (fun d => d.parameters.length) = some 1 := by decide +kernel
theorem wb_X5_needs {p : Program} {l : Launch} {e : Env} {s : State} {m : MethodId} {args : Array Value} {below : List Frame} {meth : Method} {c : Code} {G : GG} {ad : Nat → Nat} {hp0 : HP} (X : CX p s m args meth c cX5_needs 2 RX5 none G) {M : RM} {a1 : Int}   {out : RM} (hE : f_X5_needs M a1 = some out) {H : Heap} {locs : List Loc} {ls : Array Slot} (hM : RW G dX5 ad hp0 M H locs) (hl : lv_has ls 2 [(0, .ref (ad 40)), (1, vI a1)]) : W p l e (rmD 1) s m args below meth c H locs 0 0 (QR below G dX5 ad hp0 args s none out) (F0 m 0 ls []) := by
  unfold f_X5_needs at hE
  refine e_aload_n X hl 0 rfl dX5_needs_0 rfl ?_
  refine e_iload_n X hl 1 rfl dX5_needs_1 rfl ?_
  obtain ⟨v1, M2, h, hE⟩ := ob2_some hE
  refine r_callV1 X hM 40 rfl ck_X5 (rest := []) (met_X5_is l G ad hp0 M a1 h) (cwV 1 X.ht (lw_V q3294 q3296 qs92 q170 q3297) rfl rfl rfl hd_X5_is (cxR (by decide) (by decide))) rfl hl.1 rfl (Nat.le_of_ble_eq_true rfl) dX5_needs_2 ⟨Nat.le_refl _, Nat.le_refl _⟩ (fun H locs hM => ?_)
  refine e_if_ne X (w32 v1) rfl hE dX5_needs_5 rfl (fun hE => ?_) (fun hE => ?_)
  · cases hE
    exact r_vret X hM dX5_needs_16
  · refine e_aload_n X hl 0 rfl dX5_needs_8 rfl ?_
    refine e_aload_n X hl 0 rfl dX5_needs_9 rfl ?_
    refine r_getI X hM ck_X5 40 19 rfl rfl (by decide) q3053 rfl dX5_needs_10 ?_
    obtain ⟨M3, h, hE⟩ := ob_some hE
    refine r_callV0 X hM 40 rfl ck_X5 (rest := []) (met_X5_wrong l G ad hp0 M2 (M2 40 19) h) (cwV 1 X.ht (lw_V q3272 q3274 qs87 q170 q3275) rfl rfl rfl hd_X5_wrong (cxR (by decide) (by decide))) rfl hl.1 rfl (Nat.le_of_ble_eq_true rfl) dX5_needs_13 ⟨Nat.le_refl _, Nat.le_refl _⟩ (fun H locs hM => ?_)
    cases hE
    exact r_vret X hM dX5_needs_16
theorem met_X5_needs (l : Launch) (G : GG) (ad : Nat → Nat) (hp0 : HP) (M : RM) (a1 : Int)  {out : RM} (hE : f_X5_needs M a1 = some out) : MR l yX5_needs (ws_ yX5_needs cX5_needs 2 none) 1 G dX5 ad hp0 [.ref (ad 40), vI a1] M none out :=
  MR.of (by decide) (Nat.le_of_ble_eq_true rfl) rfl (fun p e s m below meth c ls X hM hl => wb_X5_needs X hE hM hl)
def f_X5_readRoad (N : Nat) (M : RM) (a1 : Int) : Option RM :=
  ob (f_X5_many M) fun v1 => jn (fun (M3 : RM) => if w32 (M3 40 20) < 0 then (ob2 (f_X5_town N M3 (-1)) fun v4 M5 => ob (f_X5_needs M5 62) fun M6 => ob2 (f_X5_town N M6 v4) fun v7 M8 => ob (f_X5_needs M8 58) fun M9 => jn (M9 40 19) fun v10 => ob2 (f_X5_number N M9 2) fun v11 M12 => ob2 (f_X5_is M12 45) fun v13 M14 => jn (fun (v16 : Int) (v17 : Int) (v18 : Int) (M19 : RM) => jn (fun (M21 : RM) => ob2 (f_X5_is M21 42) fun v22 M23 => jn (fun (v25 : Int) (M26 : RM) => if w32 (M26 40 20) < 0 then (ob (sA 100 M26 21 (4 * a1) v4) fun M27 => ob (sA 100 M27 21 ((4 * a1) + 1) v7) fun M28 => ob (sA 100 M28 21 ((4 * a1) + 2) v16) fun M29 => ob (sA 100 M29 21 ((4 * a1) + 3) v18) fun M30 => ob (sA 25 M30 22 a1 v25) fun M31 => some M31) else (some M26)) fun kj24 => if w32 v22 = 0 then (kj24 0 M23) else (ob2 (f_X5_is M23 45) fun v32 M33 => ob2 (f_X5_number N M33 9) fun v34 M35 => jn (w32 v34) fun v36 => jn (fun (v38 : Int) => kj24 v38 M35) fun kj37 => if w32 v32 = 0 then (kj37 v36) else (kj37 (-v36)))) fun kj20 => if w32 v16 ≤ w32 v18 then (kj20 M19) else (ob (f_X5_wrong M19 v17) fun M39 => kj20 M39)) fun kj15 => if w32 v13 = 0 then (kj15 0 v10 v11 M14) else (jn (M14 40 19) fun v40 => ob2 (f_X5_number N M14 2) fun v41 M42 => kj15 v11 v40 v41 M42)) else (some M3)) fun kj2 => if w32 (v1 + a1) < 24 then (kj2 M) else (ob (f_X5_wrong M (M 40 19)) fun M43 => kj2 M43)
theorem hd_X5_readRoad : yX5_readRoad.cls = RX5 ∧ yX5_readRoad.cls ≠ "java/lang/invoke/MethodHandle" ∧ yX5_readRoad.cls ≠ "java/lang/invoke/VarHandle" ∧ (parseMethodDescriptor yX5_readRoad.desc).map (fun d => d.parameters.length) = some 1 := by decide +kernel
theorem wb_X5_readRoad {p : Program} {l : Launch} {e : Env} {s : State} {m : MethodId} {args : Array Value} {below : List Frame} {meth : Method} {c : Code} {G : GG} {ad : Nat → Nat} {hp0 : HP} (X : CX p s m args meth c cX5_readRoad 10 RX5 none G) {N : Nat} {M : RM} {a1 : Int}   {out : RM} (hE : f_X5_readRoad N M a1 = some out) {H : Heap} {locs : List Loc} {ls : Array Slot} (hM : RW G dX5 ad hp0 M H locs) (hl : lv_has ls 10 [(0, .ref (ad 40)), (1, vI a1)]) : W p l e (rmD 4) s m args below meth c H locs 0 0 (QR below G dX5 ad hp0 args s none out) (F0 m 0 ls []) := by
  unfold f_X5_readRoad at hE
  refine e_aload_n X hl 0 rfl dX5_readRoad_0 rfl ?_
  obtain ⟨v1, h, hE⟩ := ob_some hE
  refine r_callV1 X hM 40 rfl ck_X5 (rest := []) (met_X5_many l G ad hp0 M h) (cwV 0 X.ht (lw_V q3206 q3208 qs77 q170 q3209) rfl rfl rfl hd_X5_many (cxR (by decide) (by decide))) rfl hl.1 rfl (Nat.le_of_ble_eq_true rfl) dX5_readRoad_1 ⟨Nat.le_refl _, Nat.le_refl _⟩ (fun H locs hM => ?_)
  refine e_iload_n X hl 1 rfl dX5_readRoad_4 rfl ?_
  refine e_iadd X dX5_readRoad_5 ?_
  refine e_bipush X dX5_readRoad_6 (by decide) ?_
  obtain ⟨kj2, hkj2, hE⟩ := jn_ex hE
  have hjkj2 : ∀ (M3 : RM) (H : Heap) (locs : List Loc) (ls : Array Slot), RW G dX5 ad hp0 M3 H locs → lv_has ls 10 [(0, .ref (ad 40)), (1, vI a1)] → kj2 M3 = some out → W p l e (rmD 4) s m args below meth c H locs 0 0 (QR below G dX5 ad hp0 args s none out) (F0 m 19 ls []) := by
    intro M3 H locs ls hM hl hE
    subst hkj2
    refine e_aload_n X hl 0 rfl dX5_readRoad_19 rfl ?_
    refine r_getI X hM ck_X5 40 20 rfl rfl (by decide) q3054 rfl dX5_readRoad_20 ?_
    refine e_if_lt X (w32 (M3 40 20)) rfl hE dX5_readRoad_23 rfl (fun hE => ?_) (fun hE => ?_)
    · refine e_aload_n X hl 0 rfl dX5_readRoad_27 rfl ?_
      refine e_iconst X dX5_readRoad_28 ?_
      obtain ⟨v4, M5, h, hE⟩ := ob2_some hE
      refine r_callV1 X hM 40 rfl ck_X5 (rest := []) (met_X5_town l G ad hp0 M3 (-1) h) (cwV 1 X.ht (lw_V q3276 q3278 qs88 q170 q3279) rfl rfl rfl hd_X5_town (cxR (by decide) (by decide))) rfl hl.1 rfl (Nat.le_of_ble_eq_true rfl) dX5_readRoad_29 ⟨Nat.le_refl _, Nat.le_refl _⟩ (fun H locs hM => ?_)
      refine e_istore_n X hl [(2, vI v4), (0, .ref (ad 40)), (1, vI a1)] dX5_readRoad_32 rfl (by decide) rfl (fun ls hl => ?_)
      refine e_aload_n X hl 1 rfl dX5_readRoad_33 rfl ?_
      refine e_bipush X dX5_readRoad_34 (by decide) ?_
      obtain ⟨M6, h, hE⟩ := ob_some hE
      refine r_callV0 X hM 40 rfl ck_X5 (rest := []) (met_X5_needs l G ad hp0 M5 62 h) (cwV 1 X.ht (lw_V q3290 q3292 qs91 q170 q3293) rfl rfl rfl hd_X5_needs (cxR (by decide) (by decide))) rfl hl.1 rfl (Nat.le_of_ble_eq_true rfl) dX5_readRoad_36 ⟨Nat.le_refl _, Nat.le_refl _⟩ (fun H locs hM => ?_)
      refine e_aload_n X hl 1 rfl dX5_readRoad_39 rfl ?_
      refine e_iload_n X hl 0 rfl dX5_readRoad_40 rfl ?_
      obtain ⟨v7, M8, h, hE⟩ := ob2_some hE
      refine r_callV1 X hM 40 rfl ck_X5 (rest := []) (met_X5_town l G ad hp0 M6 v4 h) (cwV 1 X.ht (lw_V q3276 q3278 qs88 q170 q3279) rfl rfl rfl hd_X5_town (cxR (by decide) (by decide))) rfl hl.1 rfl (Nat.le_of_ble_eq_true rfl) dX5_readRoad_41 ⟨Nat.le_refl _, Nat.le_refl _⟩ (fun H locs hM => ?_)
      refine e_istore_n X hl [(3, vI v7), (2, vI v4), (0, .ref (ad 40)), (1, vI a1)] dX5_readRoad_44 rfl (by decide) rfl (fun ls hl => ?_)
      refine e_aload_n X hl 2 rfl dX5_readRoad_45 rfl ?_
      refine e_bipush X dX5_readRoad_46 (by decide) ?_
      obtain ⟨M9, h, hE⟩ := ob_some hE
      refine r_callV0 X hM 40 rfl ck_X5 (rest := []) (met_X5_needs l G ad hp0 M8 58 h) (cwV 1 X.ht (lw_V q3290 q3292 qs91 q170 q3293) rfl rfl rfl hd_X5_needs (cxR (by decide) (by decide))) rfl hl.1 rfl (Nat.le_of_ble_eq_true rfl) dX5_readRoad_48 ⟨Nat.le_refl _, Nat.le_refl _⟩ (fun H locs hM => ?_)
      refine e_iconst X dX5_readRoad_51 ?_
      refine e_istore X hl [(4, vI 0), (3, vI v7), (2, vI v4), (0, .ref (ad 40)), (1, vI a1)] dX5_readRoad_52 (by decide) rfl (fun ls hl => ?_)
      refine e_aload_n X hl 3 rfl dX5_readRoad_54 rfl ?_
      refine r_getI X hM ck_X5 40 19 rfl rfl (by decide) q3053 rfl dX5_readRoad_55 ?_
      refine e_top hE (fun v10 hE => ?_)
      refine e_istore X hl [(5, vI v10), (4, vI 0), (3, vI v7), (2, vI v4), (0, .ref (ad 40)), (1, vI a1)] dX5_readRoad_58 (by decide) rfl (fun ls hl => ?_)
      refine e_aload_n X hl 4 rfl dX5_readRoad_60 rfl ?_
      refine e_iconst X dX5_readRoad_61 ?_
      obtain ⟨v11, M12, h, hE⟩ := ob2_some hE
      refine r_callV1 X hM 40 rfl ck_X5 (rest := []) (met_X5_number l G ad hp0 M9 2 h) (cwV 1 X.ht (lw_V q3280 q3282 qs89 q170 q3283) rfl rfl rfl hd_X5_number (cxR (by decide) (by decide))) rfl hl.1 rfl (Nat.le_of_ble_eq_true rfl) dX5_readRoad_62 ⟨Nat.le_refl _, Nat.le_refl _⟩ (fun H locs hM => ?_)
      refine e_istore X hl [(6, vI v11), (5, vI v10), (4, vI 0), (3, vI v7), (2, vI v4), (0, .ref (ad 40)), (1, vI a1)] dX5_readRoad_65 (by decide) rfl (fun ls hl => ?_)
      refine e_aload_n X hl 5 rfl dX5_readRoad_67 rfl ?_
      refine e_bipush X dX5_readRoad_68 (by decide) ?_
      obtain ⟨v13, M14, h, hE⟩ := ob2_some hE
      refine r_callV1 X hM 40 rfl ck_X5 (rest := []) (met_X5_is l G ad hp0 M12 45 h) (cwV 1 X.ht (lw_V q3294 q3296 qs92 q170 q3297) rfl rfl rfl hd_X5_is (cxR (by decide) (by decide))) rfl hl.1 rfl (Nat.le_of_ble_eq_true rfl) dX5_readRoad_70 ⟨Nat.le_refl _, Nat.le_refl _⟩ (fun H locs hM => ?_)
      obtain ⟨kj15, hkj15, hE⟩ := jn_ex hE
      have hjkj15 : ∀ (v16 : Int) (v17 : Int) (v18 : Int) (M19 : RM) (H : Heap) (locs : List Loc) (ls : Array Slot), RW G dX5 ad hp0 M19 H locs → lv_has ls 10 [(0, .ref (ad 40)), (1, vI a1), (2, vI v4), (3, vI v7), (4, vI v16), (5, vI v17), (6, vI v18)] → kj15 v16 v17 v18 M19 = some out → W p l e (rmD 4) s m args below meth c H locs 0 0 (QR below G dX5 ad hp0 args s none out) (F0 m 93 ls []) := by
        intro v16 v17 v18 M19 H locs ls hM hl hE
        subst hkj15
        refine e_iload X hl 6 rfl dX5_readRoad_93 ?_
        refine e_iload X hl 4 rfl dX5_readRoad_95 ?_
        obtain ⟨kj20, hkj20, hE⟩ := jn_ex hE
        have hjkj20 : ∀ (M21 : RM) (H : Heap) (locs : List Loc) (ls : Array Slot), RW G dX5 ad hp0 M21 H locs → lv_has ls 10 [(0, .ref (ad 40)), (1, vI a1), (2, vI v4), (3, vI v7), (4, vI v16), (6, vI v18)] → kj20 M21 = some out → W p l e (rmD 4) s m args below meth c H locs 0 0 (QR below G dX5 ad hp0 args s none out) (F0 m 106 ls []) := by
          intro M21 H locs ls hM hl hE
          subst hkj20
          refine e_lconst X 0 dX5_readRoad_106 (by decide) ?_
          refine e_lstore X hl [(7, vL 0), (0, .ref (ad 40)), (1, vI a1), (2, vI v4), (3, vI v7), (4, vI v16), (6, vI v18)] dX5_readRoad_107 (by decide) rfl (fun ls hl => ?_)
          refine e_aload_n X hl 1 rfl dX5_readRoad_109 rfl ?_
          refine e_bipush X dX5_readRoad_110 (by decide) ?_
          obtain ⟨v22, M23, h, hE⟩ := ob2_some hE
          refine r_callV1 X hM 40 rfl ck_X5 (rest := []) (met_X5_is l G ad hp0 M21 42 h) (cwV 1 X.ht (lw_V q3294 q3296 qs92 q170 q3297) rfl rfl rfl hd_X5_is (cxR (by decide) (by decide))) rfl hl.1 rfl (Nat.le_of_ble_eq_true rfl) dX5_readRoad_112 ⟨Nat.le_refl _, Nat.le_refl _⟩ (fun H locs hM => ?_)
          obtain ⟨kj24, hkj24, hE⟩ := jn_ex hE
          have hjkj24 : ∀ (v25 : Int) (M26 : RM) (H : Heap) (locs : List Loc) (ls : Array Slot), RW G dX5 ad hp0 M26 H locs → lv_has ls 10 [(0, .ref (ad 40)), (1, vI a1), (2, vI v4), (3, vI v7), (4, vI v16), (6, vI v18), (7, vL v25)] → kj24 v25 M26 = some out → W p l e (rmD 4) s m args below meth c H locs 0 0 (QR below G dX5 ad hp0 args s none out) (F0 m 150 ls []) := by
            intro v25 M26 H locs ls hM hl hE
            subst hkj24
            refine e_aload_n X hl 0 rfl dX5_readRoad_150 rfl ?_
            refine r_getI X hM ck_X5 40 20 rfl rfl (by decide) q3054 rfl dX5_readRoad_151 ?_
            refine e_if_lt X (w32 (M26 40 20)) rfl hE dX5_readRoad_154 rfl (fun hE => ?_) (fun hE => ?_)
            · refine e_aload_n X hl 0 rfl dX5_readRoad_158 rfl ?_
              refine r_getR X hM ck_X5 40 21 rfl rfl (by decide) q3055 rfl dX5_readRoad_159 ?_
              refine e_iconst X dX5_readRoad_162 ?_
              refine e_iload_n X hl 1 rfl dX5_readRoad_163 rfl ?_
              refine e_imul X dX5_readRoad_164 ?_
              refine e_iload_n X hl 2 rfl dX5_readRoad_165 rfl ?_
              refine r_iast X hM 21 rfl (Nat.le_of_ble_eq_true rfl) hE dX5_readRoad_166 (fun M27 hE H locs hM => ?_)
              refine e_aload_n X hl 0 rfl dX5_readRoad_167 rfl ?_
              refine r_getR X hM ck_X5 40 21 rfl rfl (by decide) q3055 rfl dX5_readRoad_168 ?_
              refine e_iconst X dX5_readRoad_171 ?_
              refine e_iload_n X hl 1 rfl dX5_readRoad_172 rfl ?_
              refine e_imul X dX5_readRoad_173 ?_
              refine e_iconst X dX5_readRoad_174 ?_
              refine e_iadd X dX5_readRoad_175 ?_
              refine e_iload_n X hl 3 rfl dX5_readRoad_176 rfl ?_
              refine r_iast X hM 21 rfl (Nat.le_of_ble_eq_true rfl) hE dX5_readRoad_177 (fun M28 hE H locs hM => ?_)
              refine e_aload_n X hl 0 rfl dX5_readRoad_178 rfl ?_
              refine r_getR X hM ck_X5 40 21 rfl rfl (by decide) q3055 rfl dX5_readRoad_179 ?_
              refine e_iconst X dX5_readRoad_182 ?_
              refine e_iload_n X hl 1 rfl dX5_readRoad_183 rfl ?_
              refine e_imul X dX5_readRoad_184 ?_
              refine e_iconst X dX5_readRoad_185 ?_
              refine e_iadd X dX5_readRoad_186 ?_
              refine e_iload X hl 4 rfl dX5_readRoad_187 ?_
              refine r_iast X hM 21 rfl (Nat.le_of_ble_eq_true rfl) hE dX5_readRoad_189 (fun M29 hE H locs hM => ?_)
              refine e_aload_n X hl 0 rfl dX5_readRoad_190 rfl ?_
              refine r_getR X hM ck_X5 40 21 rfl rfl (by decide) q3055 rfl dX5_readRoad_191 ?_
              refine e_iconst X dX5_readRoad_194 ?_
              refine e_iload_n X hl 1 rfl dX5_readRoad_195 rfl ?_
              refine e_imul X dX5_readRoad_196 ?_
              refine e_iconst X dX5_readRoad_197 ?_
              refine e_iadd X dX5_readRoad_198 ?_
              refine e_iload X hl 5 rfl dX5_readRoad_199 ?_
              refine r_iast X hM 21 rfl (Nat.le_of_ble_eq_true rfl) hE dX5_readRoad_201 (fun M30 hE H locs hM => ?_)
              refine e_aload_n X hl 0 rfl dX5_readRoad_202 rfl ?_
              refine r_getR X hM ck_X5 40 22 rfl rfl (by decide) q3056 rfl dX5_readRoad_203 ?_
              refine e_iload_n X hl 1 rfl dX5_readRoad_206 rfl ?_
              refine e_lload X hl 6 rfl dX5_readRoad_207 ?_
              refine r_last X hM 22 rfl (Nat.le_of_ble_eq_true rfl) hE dX5_readRoad_209 (fun M31 hE H locs hM => ?_)
              cases hE
              exact r_vret X hM dX5_readRoad_210
            · cases hE
              exact r_vret X hM dX5_readRoad_157
          refine e_if_eq X (w32 v22) rfl hE dX5_readRoad_115 rfl (fun hE => ?_) (fun hE => ?_)
          · exact hjkj24 0 M23 _ _ _ hM (lv_sub hl [1, 2, 3, 4, 5, 6, 0] rfl) hE
          · refine e_aload_n X hl 1 rfl dX5_readRoad_118 rfl ?_
            refine e_bipush X dX5_readRoad_119 (by decide) ?_
            obtain ⟨v32, M33, h, hE⟩ := ob2_some hE
            refine r_callV1 X hM 40 rfl ck_X5 (rest := []) (met_X5_is l G ad hp0 M23 45 h) (cwV 1 X.ht (lw_V q3294 q3296 qs92 q170 q3297) rfl rfl rfl hd_X5_is (cxR (by decide) (by decide))) rfl hl.1 rfl (Nat.le_of_ble_eq_true rfl) dX5_readRoad_121 ⟨Nat.le_refl _, Nat.le_refl _⟩ (fun H locs hM => ?_)
            refine e_istore X hl [(9, vI v32), (7, vL 0), (0, .ref (ad 40)), (1, vI a1), (2, vI v4), (3, vI v7), (4, vI v16), (6, vI v18)] dX5_readRoad_124 (by decide) rfl (fun ls hl => ?_)
            refine e_aload_n X hl 2 rfl dX5_readRoad_126 rfl ?_
            refine e_bipush X dX5_readRoad_127 (by decide) ?_
            obtain ⟨v34, M35, h, hE⟩ := ob2_some hE
            refine r_callV1 X hM 40 rfl ck_X5 (rest := []) (met_X5_number l G ad hp0 M33 9 h) (cwV 1 X.ht (lw_V q3280 q3282 qs89 q170 q3283) rfl rfl rfl hd_X5_number (cxR (by decide) (by decide))) rfl hl.1 rfl (Nat.le_of_ble_eq_true rfl) dX5_readRoad_129 ⟨Nat.le_refl _, Nat.le_refl _⟩ (fun H locs hM => ?_)
            refine e_i2l X dX5_readRoad_132 ?_
            refine e_topl hE (fun v36 hE => ?_)
            refine e_lstore X hl [(7, vL v36), (9, vI v32), (0, .ref (ad 40)), (1, vI a1), (2, vI v4), (3, vI v7), (4, vI v16), (6, vI v18)] dX5_readRoad_133 (by decide) rfl (fun ls hl => ?_)
            refine e_iload X hl 1 rfl dX5_readRoad_135 ?_
            obtain ⟨kj37, hkj37, hE⟩ := jn_ex hE
            have hjkj37 : ∀ (v38 : Int) (H : Heap) (locs : List Loc) (ls : Array Slot), RW G dX5 ad hp0 M35 H locs → lv_has ls 10 [(0, .ref (ad 40)), (1, vI a1), (2, vI v4), (3, vI v7), (4, vI v16), (6, vI v18)] → kj37 v38 = some out → W p l e (rmD 4) s m args below meth c H locs 0 0 (QR below G dX5 ad hp0 args s none out) (F0 m 148 ls [vL v38]) := by
              intro v38 H locs ls hM hl hE
              subst hkj37
              refine e_lstore X hl [(7, vL v38), (0, .ref (ad 40)), (1, vI a1), (2, vI v4), (3, vI v7), (4, vI v16), (6, vI v18)] dX5_readRoad_148 (by decide) rfl (fun ls hl => ?_)
              exact hjkj24 v38 M35 _ _ _ hM (lv_sub hl [1, 2, 3, 4, 5, 6, 0] rfl) hE
            refine e_if_eq X (w32 v32) rfl hE dX5_readRoad_137 rfl (fun hE => ?_) (fun hE => ?_)
            · refine e_lload X hl 0 rfl dX5_readRoad_146 ?_
              exact hjkj37 v36 _ _ _ hM (lv_sub hl [2, 3, 4, 5, 6, 7] rfl) hE
            · refine e_lload X hl 0 rfl dX5_readRoad_140 ?_
              refine e_lneg X dX5_readRoad_142 ?_
              refine e_goto X dX5_readRoad_143 rfl ?_
              exact hjkj37 (-v36) _ _ _ hM (lv_sub hl [2, 3, 4, 5, 6, 7] rfl) hE
        refine e_icmp_ge X (w32 v18) (w32 v16) rfl rfl hE dX5_readRoad_97 rfl (fun hE => ?_) (fun hE => ?_)
        · exact hjkj20 M19 _ _ _ hM (lv_sub hl [0, 1, 2, 3, 4, 6] rfl) hE
        · refine e_aload_n X hl 0 rfl dX5_readRoad_100 rfl ?_
          refine e_iload X hl 5 rfl dX5_readRoad_101 ?_
          obtain ⟨M39, h, hE⟩ := ob_some hE
          refine r_callV0 X hM 40 rfl ck_X5 (rest := []) (met_X5_wrong l G ad hp0 M19 v17 h) (cwV 1 X.ht (lw_V q3272 q3274 qs87 q170 q3275) rfl rfl rfl hd_X5_wrong (cxR (by decide) (by decide))) rfl hl.1 rfl (Nat.le_of_ble_eq_true rfl) dX5_readRoad_103 ⟨Nat.le_refl _, Nat.le_refl _⟩ (fun H locs hM => ?_)
          exact hjkj20 M39 _ _ _ hM (lv_sub hl [0, 1, 2, 3, 4, 6] rfl) hE
      refine e_if_eq X (w32 v13) rfl hE dX5_readRoad_73 rfl (fun hE => ?_) (fun hE => ?_)
      · exact hjkj15 0 v10 v11 M14 _ _ _ hM (lv_sub hl [5, 6, 4, 3, 2, 1, 0] rfl) hE
      · refine e_iload X hl 0 rfl dX5_readRoad_76 ?_
        refine e_istore X hl [(4, vI v11), (6, vI v11), (5, vI v10), (3, vI v7), (2, vI v4), (0, .ref (ad 40)), (1, vI a1)] dX5_readRoad_78 (by decide) rfl (fun ls hl => ?_)
        refine e_aload_n X hl 5 rfl dX5_readRoad_80 rfl ?_
        refine r_getI X hM ck_X5 40 19 rfl rfl (by decide) q3053 rfl dX5_readRoad_81 ?_
        refine e_top hE (fun v40 hE => ?_)
        refine e_istore X hl [(5, vI v40), (4, vI v11), (6, vI v11), (3, vI v7), (2, vI v4), (0, .ref (ad 40)), (1, vI a1)] dX5_readRoad_84 (by decide) rfl (fun ls hl => ?_)
        refine e_aload_n X hl 5 rfl dX5_readRoad_86 rfl ?_
        refine e_iconst X dX5_readRoad_87 ?_
        obtain ⟨v41, M42, h, hE⟩ := ob2_some hE
        refine r_callV1 X hM 40 rfl ck_X5 (rest := []) (met_X5_number l G ad hp0 M14 2 h) (cwV 1 X.ht (lw_V q3280 q3282 qs89 q170 q3283) rfl rfl rfl hd_X5_number (cxR (by decide) (by decide))) rfl hl.1 rfl (Nat.le_of_ble_eq_true rfl) dX5_readRoad_88 ⟨Nat.le_refl _, Nat.le_refl _⟩ (fun H locs hM => ?_)
        refine e_istore X hl [(6, vI v41), (5, vI v40), (4, vI v11), (3, vI v7), (2, vI v4), (0, .ref (ad 40)), (1, vI a1)] dX5_readRoad_91 (by decide) rfl (fun ls hl => ?_)
        exact hjkj15 v11 v40 v41 M42 _ _ _ hM (lv_sub hl [5, 6, 4, 3, 2, 1, 0] rfl) hE
    · cases hE
      exact r_vret X hM dX5_readRoad_26
  refine e_icmp_lt X (w32 (v1 + a1)) 24 rfl (by decide) hE dX5_readRoad_8 rfl (fun hE => ?_) (fun hE => ?_)
  · exact hjkj2 M _ _ _ hM (lv_sub hl [0, 1] rfl) hE
  · refine e_aload_n X hl 0 rfl dX5_readRoad_11 rfl ?_
    refine e_aload_n X hl 0 rfl dX5_readRoad_12 rfl ?_
    refine r_getI X hM ck_X5 40 19 rfl rfl (by decide) q3053 rfl dX5_readRoad_13 ?_
    obtain ⟨M43, h, hE⟩ := ob_some hE
    refine r_callV0 X hM 40 rfl ck_X5 (rest := []) (met_X5_wrong l G ad hp0 M (M 40 19) h) (cwV 1 X.ht (lw_V q3272 q3274 qs87 q170 q3275) rfl rfl rfl hd_X5_wrong (cxR (by decide) (by decide))) rfl hl.1 rfl (Nat.le_of_ble_eq_true rfl) dX5_readRoad_16 ⟨Nat.le_refl _, Nat.le_refl _⟩ (fun H locs hM => ?_)
    exact hjkj2 M43 _ _ _ hM (lv_sub hl [0, 1] rfl) hE
theorem met_X5_readRoad (l : Launch) (G : GG) (ad : Nat → Nat) (hp0 : HP) {N : Nat} (M : RM) (a1 : Int)  {out : RM} (hE : f_X5_readRoad N M a1 = some out) : MR l yX5_readRoad (ws_ yX5_readRoad cX5_readRoad 10 none) 4 G dX5 ad hp0 [.ref (ad 40), vI a1] M none out :=
  MR.of (by decide) (Nat.le_of_ble_eq_true rfl) rfl (fun p e s m below meth c ls X hM hl => wb_X5_readRoad X hE hM hl)
def f_X5_readSupply (N : Nat) (M : RM)  : Option RM :=
  ob2 (f_X5_town N M (-1)) fun v1 M2 => ob (f_X5_needs M2 61) fun M3 => ob2 (f_X5_is M3 45) fun v4 M5 => ob2 (f_X5_number N M5 2) fun v6 M7 => if 0 ≤ w32 (M7 40 20) then (some M7) else (if w32 v1 < 8 then (jn (fun (v9 : Int) => ob (sA 100 M7 21 v1 v9) fun M10 => ob (sA 100 M10 21 (8 + v1) 1) fun M11 => some M11) fun kj8 => if w32 v4 = 0 then (kj8 v6) else (kj8 (-v6))) else (some M7))
theorem hd_X5_readSupply : yX5_readSupply.cls = RX5 ∧ yX5_readSupply.cls ≠ "java/lang/invoke/MethodHandle" ∧ yX5_readSupply.cls ≠ "java/lang/invoke/VarHandle" ∧ (parseMethodDescriptor yX5_readSupply.desc).map (fun d => d.parameters.length) = some 0 := by decide +kernel
theorem wb_X5_readSupply {p : Program} {l : Launch} {e : Env} {s : State} {m : MethodId} {args : Array Value} {below : List Frame} {meth : Method} {c : Code} {G : GG} {ad : Nat → Nat} {hp0 : HP} (X : CX p s m args meth c cX5_readSupply 4 RX5 none G) {N : Nat} {M : RM}   {out : RM} (hE : f_X5_readSupply N M = some out) {H : Heap} {locs : List Loc} {ls : Array Slot} (hM : RW G dX5 ad hp0 M H locs) (hl : lv_has ls 4 [(0, .ref (ad 40))]) : W p l e (rmD 4) s m args below meth c H locs 0 0 (QR below G dX5 ad hp0 args s none out) (F0 m 0 ls []) := by
  unfold f_X5_readSupply at hE
  refine e_aload_n X hl 0 rfl dX5_readSupply_0 rfl ?_
  refine e_iconst X dX5_readSupply_1 ?_
  obtain ⟨v1, M2, h, hE⟩ := ob2_some hE
  refine r_callV1 X hM 40 rfl ck_X5 (rest := []) (met_X5_town l G ad hp0 M (-1) h) (cwV 1 X.ht (lw_V q3276 q3278 qs88 q170 q3279) rfl rfl rfl hd_X5_town (cxR (by decide) (by decide))) rfl hl.1 rfl (Nat.le_of_ble_eq_true rfl) dX5_readSupply_2 ⟨Nat.le_refl _, Nat.le_refl _⟩ (fun H locs hM => ?_)
  refine e_istore_n X hl [(1, vI v1), (0, .ref (ad 40))] dX5_readSupply_5 rfl (by decide) rfl (fun ls hl => ?_)
  refine e_aload_n X hl 1 rfl dX5_readSupply_6 rfl ?_
  refine e_bipush X dX5_readSupply_7 (by decide) ?_
  obtain ⟨M3, h, hE⟩ := ob_some hE
  refine r_callV0 X hM 40 rfl ck_X5 (rest := []) (met_X5_needs l G ad hp0 M2 61 h) (cwV 1 X.ht (lw_V q3290 q3292 qs91 q170 q3293) rfl rfl rfl hd_X5_needs (cxR (by decide) (by decide))) rfl hl.1 rfl (Nat.le_of_ble_eq_true rfl) dX5_readSupply_9 ⟨Nat.le_refl _, Nat.le_refl _⟩ (fun H locs hM => ?_)
  refine e_aload_n X hl 1 rfl dX5_readSupply_12 rfl ?_
  refine e_bipush X dX5_readSupply_13 (by decide) ?_
  obtain ⟨v4, M5, h, hE⟩ := ob2_some hE
  refine r_callV1 X hM 40 rfl ck_X5 (rest := []) (met_X5_is l G ad hp0 M3 45 h) (cwV 1 X.ht (lw_V q3294 q3296 qs92 q170 q3297) rfl rfl rfl hd_X5_is (cxR (by decide) (by decide))) rfl hl.1 rfl (Nat.le_of_ble_eq_true rfl) dX5_readSupply_15 ⟨Nat.le_refl _, Nat.le_refl _⟩ (fun H locs hM => ?_)
  refine e_istore_n X hl [(2, vI v4), (1, vI v1), (0, .ref (ad 40))] dX5_readSupply_18 rfl (by decide) rfl (fun ls hl => ?_)
  refine e_aload_n X hl 2 rfl dX5_readSupply_19 rfl ?_
  refine e_iconst X dX5_readSupply_20 ?_
  obtain ⟨v6, M7, h, hE⟩ := ob2_some hE
  refine r_callV1 X hM 40 rfl ck_X5 (rest := []) (met_X5_number l G ad hp0 M5 2 h) (cwV 1 X.ht (lw_V q3280 q3282 qs89 q170 q3283) rfl rfl rfl hd_X5_number (cxR (by decide) (by decide))) rfl hl.1 rfl (Nat.le_of_ble_eq_true rfl) dX5_readSupply_21 ⟨Nat.le_refl _, Nat.le_refl _⟩ (fun H locs hM => ?_)
  refine e_istore_n X hl [(3, vI v6), (2, vI v4), (1, vI v1), (0, .ref (ad 40))] dX5_readSupply_24 rfl (by decide) rfl (fun ls hl => ?_)
  refine e_aload_n X hl 3 rfl dX5_readSupply_25 rfl ?_
  refine r_getI X hM ck_X5 40 20 rfl rfl (by decide) q3054 rfl dX5_readSupply_26 ?_
  refine e_if_ge X (w32 (M7 40 20)) rfl hE dX5_readSupply_29 rfl (fun hE => ?_) (fun hE => ?_)
  · cases hE
    exact r_vret X hM dX5_readSupply_38
  · refine e_iload_n X hl 2 rfl dX5_readSupply_32 rfl ?_
    refine e_bipush X dX5_readSupply_33 (by decide) ?_
    refine e_icmp_lt X (w32 v1) 8 rfl (by decide) hE dX5_readSupply_35 rfl (fun hE => ?_) (fun hE => ?_)
    · refine e_aload_n X hl 3 rfl dX5_readSupply_39 rfl ?_
      refine r_getR X hM ck_X5 40 21 rfl rfl (by decide) q3055 rfl dX5_readSupply_40 ?_
      refine e_iload_n X hl 2 rfl dX5_readSupply_43 rfl ?_
      refine e_iload_n X hl 1 rfl dX5_readSupply_44 rfl ?_
      obtain ⟨kj8, hkj8, hE⟩ := jn_ex hE
      have hjkj8 : ∀ (v9 : Int) (H : Heap) (locs : List Loc) (ls : Array Slot), RW G dX5 ad hp0 M7 H locs → lv_has ls 4 [(0, .ref (ad 40)), (1, vI v1)] → kj8 v9 = some out → W p l e (rmD 4) s m args below meth c H locs 0 0 (QR below G dX5 ad hp0 args s none out) (F0 m 54 ls [vI v9, vI v1, .ref (ad 21)]) := by
        intro v9 H locs ls hM hl hE
        subst hkj8
        refine r_iast X hM 21 rfl (Nat.le_of_ble_eq_true rfl) hE dX5_readSupply_54 (fun M10 hE H locs hM => ?_)
        refine e_aload_n X hl 0 rfl dX5_readSupply_55 rfl ?_
        refine r_getR X hM ck_X5 40 21 rfl rfl (by decide) q3055 rfl dX5_readSupply_56 ?_
        refine e_bipush X dX5_readSupply_59 (by decide) ?_
        refine e_iload_n X hl 1 rfl dX5_readSupply_61 rfl ?_
        refine e_iadd X dX5_readSupply_62 ?_
        refine e_iconst X dX5_readSupply_63 ?_
        refine r_iast X hM 21 rfl (Nat.le_of_ble_eq_true rfl) hE dX5_readSupply_64 (fun M11 hE H locs hM => ?_)
        cases hE
        exact r_vret X hM dX5_readSupply_65
      refine e_if_eq X (w32 v4) rfl hE dX5_readSupply_45 rfl (fun hE => ?_) (fun hE => ?_)
      · refine e_iload_n X hl 0 rfl dX5_readSupply_53 rfl ?_
        exact hjkj8 v6 _ _ _ hM (lv_sub hl [3, 2] rfl) hE
      · refine e_iload_n X hl 0 rfl dX5_readSupply_48 rfl ?_
        refine e_ineg X dX5_readSupply_49 ?_
        refine e_goto X dX5_readSupply_50 rfl ?_
        exact hjkj8 (-v6) _ _ _ hM (lv_sub hl [3, 2] rfl) hE
    · cases hE
      exact r_vret X hM dX5_readSupply_38
theorem met_X5_readSupply (l : Launch) (G : GG) (ad : Nat → Nat) (hp0 : HP) {N : Nat} (M : RM)   {out : RM} (hE : f_X5_readSupply N M = some out) : MR l yX5_readSupply (ws_ yX5_readSupply cX5_readSupply 4 none) 4 G dX5 ad hp0 [.ref (ad 40)] M none out :=
  MR.of (by decide) (Nat.le_of_ble_eq_true rfl) rfl (fun p e s m below meth c ls X hM hl => wb_X5_readSupply X hE hM hl)
def f_X5_reads_L14 (N : Nat) (b1 : Int) (b2 : Int) (k : RM → Int → Option (Int × RM)) : Nat → RM → Int → Option (Int × RM)
  | 0, _, _ => none
  | n + 1, M, x3 =>
    if 16 ≤ w32 x3 then (k M x3) else (ob (sA 100 M 21 x3 0) fun M3 => jn (x3 + 1) fun v4 => f_X5_reads_L14 N b1 b2 k n M3 v4)
def f_X5_reads_L33 (N : Nat) (b1 : Int) (k : RM → Int → Option (Int × RM)) : Nat → RM → Int → Option (Int × RM)
  | 0, _, _ => none
  | n + 1, M, x2 =>
    jn (fun (M8 : RM) => jn (x2 + 1) fun v9 => ob2 (f_X5_is M8 59) fun v10 M11 => if ¬ w32 v10 = 0 then (f_X5_reads_L33 N b1 k n M11 v9) else (k M11 v9)) fun kj7 => if w32 b1 = 0 then (ob (f_X5_readSupply N M) fun M12 => kj7 M12) else (ob (f_X5_readRoad N M x2) fun M13 => kj7 M13)
def f_X5_reads (N : Nat) (M : RM) (a1 : Int) : Option (Int × RM) :=
  jn (up2 M 40 19 0) fun M1 => jn (up2 M1 40 20 (-1)) fun M2 => f_X5_reads_L14 N a1 0 (fun (M5 : RM) (v6 : Int) => f_X5_reads_L33 N a1 (fun (M14 : RM) (v15 : Int) => jn (fun (M17 : RM) => jn (up2 M17 40 8 0) fun M18 => if w32 (M18 40 20) < 0 then (some (v15, M18)) else (some ((-100) - (M18 40 20), M18))) fun kj16 => if w32 (M14 40 8) ≤ w32 (M14 40 19) then (kj16 M14) else (ob (f_X5_wrong M14 (M14 40 19)) fun M19 => kj16 M19)) N M5 0) N M2 0
theorem hd_X5_reads : yX5_reads.cls = RX5 ∧ yX5_reads.cls ≠ "java/lang/invoke/MethodHandle" ∧ yX5_reads.cls ≠ "java/lang/invoke/VarHandle" ∧ (parseMethodDescriptor yX5_reads.desc).map (fun d => d.parameters.length) = some 1 := by decide +kernel
theorem wl_X5_reads_14 {p : Program} {l : Launch} {e : Env} {s : State} {m : MethodId} {args : Array Value} {below : List Frame} {meth : Method} {c : Code} {G : GG} {ad : Nat → Nat} {hp0 : HP} (X : CX p s m args meth c cX5_reads 4 RX5 (some .int) G) {N : Nat} {b1 : Int} {b2 : Int}  {k : RM → Int → Option (Int × RM)} {out : (Int × RM)} : ∀ (n : Nat) (M : RM) (x3 : Int) (H : Heap) (locs : List Loc) (ls : Array Slot) (hE : f_X5_reads_L14 N b1 b2 k n M x3 = some out) (hM : RW G dX5 ad hp0 M H locs) (hl : lv_has ls 4 [(0, .ref (ad 40)), (1, vI b1), (2, vI b2), (3, vI x3)]) (hk : ∀ (M : RM) (x3 : Int) (H : Heap) (locs : List Loc) (ls : Array Slot), RW G dX5 ad hp0 M H locs → lv_has ls 4 [(0, .ref (ad 40)), (1, vI b1), (2, vI b2), (3, vI x3)] → k M x3 = some out → W p l e (rmD 5) s m args below meth c H locs 0 0 (QR below G dX5 ad hp0 args s (some (vI out.1)) out.2) (F0 m 33 ls [])), W p l e (rmD 5) s m args below meth c H locs 0 0 (QR below G dX5 ad hp0 args s (some (vI out.1)) out.2) (F0 m 14 ls []) := by
  intro n
  induction n with
  | zero =>
    intro M x3 H locs ls hE hM hl hk
    unfold f_X5_reads_L14 at hE
    cases hE
  | succ n ih =>
    intro M x3 H locs ls hE hM hl hk
    unfold f_X5_reads_L14 at hE
    refine e_iload_n X hl 3 rfl dX5_reads_14 rfl ?_
    refine e_bipush X dX5_reads_15 (by decide) ?_
    refine e_icmp_ge X (w32 x3) 16 rfl (by decide) hE dX5_reads_17 rfl (fun hE => ?_) (fun hE => ?_)
    · exact hk M x3 _ _ _ hM (lv_sub hl [0, 1, 2, 3] rfl) hE
    · refine e_aload_n X hl 0 rfl dX5_reads_20 rfl ?_
      refine r_getR X hM ck_X5 40 21 rfl rfl (by decide) q3055 rfl dX5_reads_21 ?_
      refine e_iload_n X hl 3 rfl dX5_reads_24 rfl ?_
      refine e_iconst X dX5_reads_25 ?_
      refine r_iast X hM 21 rfl (Nat.le_of_ble_eq_true rfl) hE dX5_reads_26 (fun M3 hE H locs hM => ?_)
      refine e_iinc X hl 3 hE (fun v4 => [(3, vI v4), (0, .ref (ad 40)), (1, vI b1), (2, vI b2)]) rfl dX5_reads_27 (by decide) (fun _ => rfl) (fun v4 hE ls hl => ?_)
      refine e_goto X dX5_reads_30 rfl ?_
      exact ih M3 v4 _ _ _ hE hM (lv_sub hl [1, 2, 3, 0] rfl) hk
theorem wl_X5_reads_33 {p : Program} {l : Launch} {e : Env} {s : State} {m : MethodId} {args : Array Value} {below : List Frame} {meth : Method} {c : Code} {G : GG} {ad : Nat → Nat} {hp0 : HP} (X : CX p s m args meth c cX5_reads 4 RX5 (some .int) G) {N : Nat} {b1 : Int}  {k : RM → Int → Option (Int × RM)} {out : (Int × RM)} : ∀ (n : Nat) (M : RM) (x2 : Int) (H : Heap) (locs : List Loc) (ls : Array Slot) (hE : f_X5_reads_L33 N b1 k n M x2 = some out) (hM : RW G dX5 ad hp0 M H locs) (hl : lv_has ls 4 [(0, .ref (ad 40)), (1, vI b1), (2, vI x2)]) (hk : ∀ (M : RM) (x2 : Int) (H : Heap) (locs : List Loc) (ls : Array Slot), RW G dX5 ad hp0 M H locs → lv_has ls 4 [(0, .ref (ad 40)), (1, vI b1), (2, vI x2)] → k M x2 = some out → W p l e (rmD 5) s m args below meth c H locs 0 0 (QR below G dX5 ad hp0 args s (some (vI out.1)) out.2) (F0 m 61 ls [])), W p l e (rmD 5) s m args below meth c H locs 0 0 (QR below G dX5 ad hp0 args s (some (vI out.1)) out.2) (F0 m 33 ls []) := by
  intro n
  induction n with
  | zero =>
    intro M x2 H locs ls hE hM hl hk
    unfold f_X5_reads_L33 at hE
    cases hE
  | succ n ih =>
    intro M x2 H locs ls hE hM hl hk
    unfold f_X5_reads_L33 at hE
    refine e_iload_n X hl 1 rfl dX5_reads_33 rfl ?_
    obtain ⟨kj7, hkj7, hE⟩ := jn_ex hE
    have hjkj7 : ∀ (M8 : RM) (H : Heap) (locs : List Loc) (ls : Array Slot), RW G dX5 ad hp0 M8 H locs → lv_has ls 4 [(0, .ref (ad 40)), (1, vI b1), (2, vI x2)] → kj7 M8 = some out → W p l e (rmD 5) s m args below meth c H locs 0 0 (QR below G dX5 ad hp0 args s (some (vI out.1)) out.2) (F0 m 49 ls []) := by
      intro M8 H locs ls hM hl hE
      subst hkj7
      refine e_iinc X hl 2 hE (fun v9 => [(2, vI v9), (0, .ref (ad 40)), (1, vI b1)]) rfl dX5_reads_49 (by decide) (fun _ => rfl) (fun v9 hE ls hl => ?_)
      refine e_aload_n X hl 1 rfl dX5_reads_52 rfl ?_
      refine e_bipush X dX5_reads_53 (by decide) ?_
      obtain ⟨v10, M11, h, hE⟩ := ob2_some hE
      refine r_callV1 X hM 40 rfl ck_X5 (rest := []) (met_X5_is l G ad hp0 M8 59 h) (cwV 1 X.ht (lw_V q3294 q3296 qs92 q170 q3297) rfl rfl rfl hd_X5_is (cxR (by decide) (by decide))) rfl hl.1 rfl (Nat.le_of_ble_eq_true rfl) dX5_reads_55 ⟨Nat.le_refl _, Nat.le_refl _⟩ (fun H locs hM => ?_)
      refine e_if_ne X (w32 v10) rfl hE dX5_reads_58 rfl (fun hE => ?_) (fun hE => ?_)
      · exact ih M11 v9 _ _ _ hE hM (lv_sub hl [1, 2, 0] rfl) hk
      · exact hk M11 v9 _ _ _ hM (lv_sub hl [1, 2, 0] rfl) hE
    refine e_if_eq X (w32 b1) rfl hE dX5_reads_34 rfl (fun hE => ?_) (fun hE => ?_)
    · refine e_aload_n X hl 0 rfl dX5_reads_45 rfl ?_
      obtain ⟨M12, h, hE⟩ := ob_some hE
      refine r_callV0 X hM 40 rfl ck_X5 (rest := []) (met_X5_readSupply l G ad hp0 M h) (cwV 0 X.ht (lw_V q3298 q3300 qs93 q170 q3301) rfl rfl rfl hd_X5_readSupply (cxR (by decide) (by decide))) rfl hl.1 rfl (Nat.le_of_ble_eq_true rfl) dX5_reads_46 ⟨Nat.le_refl _, Nat.le_refl _⟩ (fun H locs hM => ?_)
      exact hjkj7 M12 _ _ _ hM (lv_sub hl [0, 1, 2] rfl) hE
    · refine e_aload_n X hl 0 rfl dX5_reads_37 rfl ?_
      refine e_iload_n X hl 2 rfl dX5_reads_38 rfl ?_
      obtain ⟨M13, h, hE⟩ := ob_some hE
      refine r_callV0 X hM 40 rfl ck_X5 (rest := []) (met_X5_readRoad l G ad hp0 M x2 h) (cwV 1 X.ht (lw_V q3268 q3270 qs86 q170 q3271) rfl rfl rfl hd_X5_readRoad (cxR (by decide) (by decide))) rfl hl.1 rfl (Nat.le_of_ble_eq_true rfl) dX5_reads_39 ⟨Nat.le_refl _, Nat.le_refl _⟩ (fun H locs hM => ?_)
      refine e_goto X dX5_reads_42 rfl ?_
      exact hjkj7 M13 _ _ _ hM (lv_sub hl [0, 1, 2] rfl) hE
theorem wb_X5_reads {p : Program} {l : Launch} {e : Env} {s : State} {m : MethodId} {args : Array Value} {below : List Frame} {meth : Method} {c : Code} {G : GG} {ad : Nat → Nat} {hp0 : HP} (X : CX p s m args meth c cX5_reads 4 RX5 (some .int) G) {N : Nat} {M : RM} {a1 : Int}   {out : (Int × RM)} (hE : f_X5_reads N M a1 = some out) {H : Heap} {locs : List Loc} {ls : Array Slot} (hM : RW G dX5 ad hp0 M H locs) (hl : lv_has ls 4 [(0, .ref (ad 40)), (1, vI a1)]) : W p l e (rmD 5) s m args below meth c H locs 0 0 (QR below G dX5 ad hp0 args s (some (vI out.1)) out.2) (F0 m 0 ls []) := by
  unfold f_X5_reads at hE
  refine e_aload_n X hl 0 rfl dX5_reads_0 rfl ?_
  refine e_iconst X dX5_reads_1 ?_
  refine r_putI X hM ck_X5 40 19 rfl rfl (by decide) q3053 rfl rfl hE rfl dX5_reads_2 (fun M1 hE H locs hM => ?_)
  refine e_aload_n X hl 0 rfl dX5_reads_5 rfl ?_
  refine e_iconst X dX5_reads_6 ?_
  refine r_putI X hM ck_X5 40 20 rfl rfl (by decide) q3054 rfl rfl hE rfl dX5_reads_7 (fun M2 hE H locs hM => ?_)
  refine e_iconst X dX5_reads_10 ?_
  refine e_istore_n X hl [(2, vI 0), (0, .ref (ad 40)), (1, vI a1)] dX5_reads_11 rfl (by decide) rfl (fun ls hl => ?_)
  refine e_iconst X dX5_reads_12 ?_
  refine e_istore_n X hl [(3, vI 0), (2, vI 0), (0, .ref (ad 40)), (1, vI a1)] dX5_reads_13 rfl (by decide) rfl (fun ls hl => ?_)
  refine wl_X5_reads_14 X _ M2 0 _ _ _ hE hM (lv_sub hl [2, 3, 1, 0] rfl) (fun M5 v6 H locs ls hM hl hE => ?_)
  refine wl_X5_reads_33 X _ M5 0 _ _ _ hE hM (lv_sub hl [0, 1, 2] rfl) (fun M14 v15 H locs ls hM hl hE => ?_)
  refine e_aload_n X hl 0 rfl dX5_reads_61 rfl ?_
  refine r_getI X hM ck_X5 40 19 rfl rfl (by decide) q3053 rfl dX5_reads_62 ?_
  refine e_aload_n X hl 0 rfl dX5_reads_65 rfl ?_
  refine r_getI X hM ck_X5 40 8 rfl rfl (by decide) q3042 rfl dX5_reads_66 ?_
  obtain ⟨kj16, hkj16, hE⟩ := jn_ex hE
  have hjkj16 : ∀ (M17 : RM) (H : Heap) (locs : List Loc) (ls : Array Slot), RW G dX5 ad hp0 M17 H locs → lv_has ls 4 [(0, .ref (ad 40)), (2, vI v15)] → kj16 M17 = some out → W p l e (rmD 5) s m args below meth c H locs 0 0 (QR below G dX5 ad hp0 args s (some (vI out.1)) out.2) (F0 m 80 ls []) := by
    intro M17 H locs ls hM hl hE
    subst hkj16
    refine e_aload_n X hl 0 rfl dX5_reads_80 rfl ?_
    refine e_iconst X dX5_reads_81 ?_
    refine r_putI X hM ck_X5 40 8 rfl rfl (by decide) q3042 rfl rfl hE rfl dX5_reads_82 (fun M18 hE H locs hM => ?_)
    refine e_aload_n X hl 0 rfl dX5_reads_85 rfl ?_
    refine r_getI X hM ck_X5 40 20 rfl rfl (by decide) q3054 rfl dX5_reads_86 ?_
    refine e_if_lt X (w32 (M18 40 20)) rfl hE dX5_reads_89 rfl (fun hE => ?_) (fun hE => ?_)
    · refine e_iload_n X hl 1 rfl dX5_reads_102 rfl ?_
      cases hE
      exact r_zret X hM rfl dX5_reads_103
    · refine e_bipush X dX5_reads_92 (by decide) ?_
      refine e_aload_n X hl 0 rfl dX5_reads_94 rfl ?_
      refine r_getI X hM ck_X5 40 20 rfl rfl (by decide) q3054 rfl dX5_reads_95 ?_
      refine e_isub X dX5_reads_98 ?_
      refine e_goto X dX5_reads_99 rfl ?_
      cases hE
      exact r_zret X hM rfl dX5_reads_103
  refine e_icmp_ge X (w32 (M14 40 19)) (w32 (M14 40 8)) rfl rfl hE dX5_reads_69 rfl (fun hE => ?_) (fun hE => ?_)
  · exact hjkj16 M14 _ _ _ hM (lv_sub hl [0, 2] rfl) hE
  · refine e_aload_n X hl 0 rfl dX5_reads_72 rfl ?_
    refine e_aload_n X hl 0 rfl dX5_reads_73 rfl ?_
    refine r_getI X hM ck_X5 40 19 rfl rfl (by decide) q3053 rfl dX5_reads_74 ?_
    obtain ⟨M19, h, hE⟩ := ob_some hE
    refine r_callV0 X hM 40 rfl ck_X5 (rest := []) (met_X5_wrong l G ad hp0 M14 (M14 40 19) h) (cwV 1 X.ht (lw_V q3272 q3274 qs87 q170 q3275) rfl rfl rfl hd_X5_wrong (cxR (by decide) (by decide))) rfl hl.1 rfl (Nat.le_of_ble_eq_true rfl) dX5_reads_77 ⟨Nat.le_refl _, Nat.le_refl _⟩ (fun H locs hM => ?_)
    exact hjkj16 M19 _ _ _ hM (lv_sub hl [0, 2] rfl) hE
theorem met_X5_reads (l : Launch) (G : GG) (ad : Nat → Nat) (hp0 : HP) {N : Nat} (M : RM) (a1 : Int)  {out : (Int × RM)} (hE : f_X5_reads N M a1 = some out) : MR l yX5_reads (ws_ yX5_reads cX5_reads 4 (some .int)) 5 G dX5 ad hp0 [.ref (ad 40), vI a1] M (some (vI out.1)) out.2 :=
  MR.of (by decide) (Nat.le_of_ble_eq_true rfl) rfl (fun p e s m below meth c ls X hM hl => wb_X5_reads X hE hM hl)
def f_X5_roads_L18 (N : Nat) (b1 : Int) (k : RM → Int → Option (Int × RM)) : Nat → RM → Int → Option (Int × RM)
  | 0, _, _ => none
  | n + 1, M, x2 =>
    if w32 b1 ≤ w32 x2 then (k M x2) else (ob (gA 110 M 0 1) fun v4 => ob (sA 110 M 0 1 (v4 + 1)) fun M5 => ob (gA 100 M5 21 (4 * x2)) fun v6 => ob (gA 100 M5 21 ((4 * x2) + 1)) fun v7 => ob (gA 100 M5 21 ((4 * x2) + 2)) fun v8 => ob (gA 100 M5 21 ((4 * x2) + 3)) fun v9 => ob (gA 25 M5 22 x2) fun v10 => ob (f_X5_lies M5 v4 v6 v7 v8 v9 v10) fun M11 => jn (x2 + 1) fun v12 => f_X5_roads_L18 N b1 k n M11 v12)
def f_X5_roads (N : Nat) (M : RM)  : Option (Int × RM) :=
  ob2 (f_X5_reads N M 1) fun v1 M2 => if 0 ≤ w32 v1 then (ob (f_X5_keeps N M2) fun M3 => f_X5_roads_L18 N v1 (fun (M13 : RM) (v14 : Int) => some (v1, M13)) N M3 0) else (some (v1, M2))
theorem hd_X5_roads : yX5_roads.cls = RX5 ∧ yX5_roads.cls ≠ "java/lang/invoke/MethodHandle" ∧ yX5_roads.cls ≠ "java/lang/invoke/VarHandle" ∧ (parseMethodDescriptor yX5_roads.desc).map (fun d => d.parameters.length) = some 0 := by decide +kernel
theorem wl_X5_roads_18 {p : Program} {l : Launch} {e : Env} {s : State} {m : MethodId} {args : Array Value} {below : List Frame} {meth : Method} {c : Code} {G : GG} {ad : Nat → Nat} {hp0 : HP} (X : CX p s m args meth c cX5_roads 3 RX5 (some .int) G) {N : Nat} {b1 : Int}  {k : RM → Int → Option (Int × RM)} {out : (Int × RM)} : ∀ (n : Nat) (M : RM) (x2 : Int) (H : Heap) (locs : List Loc) (ls : Array Slot) (hE : f_X5_roads_L18 N b1 k n M x2 = some out) (hM : RW G dX5 ad hp0 M H locs) (hl : lv_has ls 3 [(0, .ref (ad 40)), (1, vI b1), (2, vI x2)]) (hk : ∀ (M : RM) (x2 : Int) (H : Heap) (locs : List Loc) (ls : Array Slot), RW G dX5 ad hp0 M H locs → lv_has ls 3 [(0, .ref (ad 40)), (1, vI b1), (2, vI x2)] → k M x2 = some out → W p l e (rmD 6) s m args below meth c H locs 0 0 (QR below G dX5 ad hp0 args s (some (vI out.1)) out.2) (F0 m 88 ls [])), W p l e (rmD 6) s m args below meth c H locs 0 0 (QR below G dX5 ad hp0 args s (some (vI out.1)) out.2) (F0 m 18 ls []) := by
  intro n
  induction n with
  | zero =>
    intro M x2 H locs ls hE hM hl hk
    unfold f_X5_roads_L18 at hE
    cases hE
  | succ n ih =>
    intro M x2 H locs ls hE hM hl hk
    unfold f_X5_roads_L18 at hE
    refine e_iload_n X hl 2 rfl dX5_roads_18 rfl ?_
    refine e_iload_n X hl 1 rfl dX5_roads_19 rfl ?_
    refine e_icmp_ge X (w32 x2) (w32 b1) rfl rfl hE dX5_roads_20 rfl (fun hE => ?_) (fun hE => ?_)
    · exact hk M x2 _ _ _ hM (lv_sub hl [0, 1, 2] rfl) hE
    · refine e_aload_n X hl 0 rfl dX5_roads_23 rfl ?_
      refine e_aload_n X hl 0 rfl dX5_roads_24 rfl ?_
      refine r_getR X hM ck_X5 40 0 rfl rfl (by decide) q3034 rfl dX5_roads_25 ?_
      refine e_iconst X dX5_roads_28 ?_
      refine e_dup2 X dX5_roads_29 rfl rfl ?_
      refine r_iald X hM 0 rfl (Nat.le_of_ble_eq_true rfl) hE dX5_roads_30 (fun v4 hE => ?_)
      refine e_dup_x2 X dX5_roads_31 rfl rfl rfl ?_
      refine e_iconst X dX5_roads_32 ?_
      refine e_iadd X dX5_roads_33 ?_
      refine r_iast X hM 0 rfl (Nat.le_of_ble_eq_true rfl) hE dX5_roads_34 (fun M5 hE H locs hM => ?_)
      refine e_aload_n X hl 0 rfl dX5_roads_35 rfl ?_
      refine r_getR X hM ck_X5 40 21 rfl rfl (by decide) q3055 rfl dX5_roads_36 ?_
      refine e_iconst X dX5_roads_39 ?_
      refine e_iload_n X hl 2 rfl dX5_roads_40 rfl ?_
      refine e_imul X dX5_roads_41 ?_
      refine r_iald X hM 21 rfl (Nat.le_of_ble_eq_true rfl) hE dX5_roads_42 (fun v6 hE => ?_)
      refine e_aload_n X hl 0 rfl dX5_roads_43 rfl ?_
      refine r_getR X hM ck_X5 40 21 rfl rfl (by decide) q3055 rfl dX5_roads_44 ?_
      refine e_iconst X dX5_roads_47 ?_
      refine e_iload_n X hl 2 rfl dX5_roads_48 rfl ?_
      refine e_imul X dX5_roads_49 ?_
      refine e_iconst X dX5_roads_50 ?_
      refine e_iadd X dX5_roads_51 ?_
      refine r_iald X hM 21 rfl (Nat.le_of_ble_eq_true rfl) hE dX5_roads_52 (fun v7 hE => ?_)
      refine e_aload_n X hl 0 rfl dX5_roads_53 rfl ?_
      refine r_getR X hM ck_X5 40 21 rfl rfl (by decide) q3055 rfl dX5_roads_54 ?_
      refine e_iconst X dX5_roads_57 ?_
      refine e_iload_n X hl 2 rfl dX5_roads_58 rfl ?_
      refine e_imul X dX5_roads_59 ?_
      refine e_iconst X dX5_roads_60 ?_
      refine e_iadd X dX5_roads_61 ?_
      refine r_iald X hM 21 rfl (Nat.le_of_ble_eq_true rfl) hE dX5_roads_62 (fun v8 hE => ?_)
      refine e_aload_n X hl 0 rfl dX5_roads_63 rfl ?_
      refine r_getR X hM ck_X5 40 21 rfl rfl (by decide) q3055 rfl dX5_roads_64 ?_
      refine e_iconst X dX5_roads_67 ?_
      refine e_iload_n X hl 2 rfl dX5_roads_68 rfl ?_
      refine e_imul X dX5_roads_69 ?_
      refine e_iconst X dX5_roads_70 ?_
      refine e_iadd X dX5_roads_71 ?_
      refine r_iald X hM 21 rfl (Nat.le_of_ble_eq_true rfl) hE dX5_roads_72 (fun v9 hE => ?_)
      refine e_aload_n X hl 0 rfl dX5_roads_73 rfl ?_
      refine r_getR X hM ck_X5 40 22 rfl rfl (by decide) q3056 rfl dX5_roads_74 ?_
      refine e_iload_n X hl 2 rfl dX5_roads_77 rfl ?_
      refine r_lald X hM 22 rfl (Nat.le_of_ble_eq_true rfl) hE dX5_roads_78 (fun v10 hE => ?_)
      obtain ⟨M11, h, hE⟩ := ob_some hE
      refine r_callV0 X hM 40 rfl ck_X5 (rest := []) (met_X5_lies l G ad hp0 M5 v4 v6 v7 v8 v9 v10 h) (cwV 6 X.ht (lw_V q3210 q3212 qs78 q170 q3213) rfl rfl rfl hd_X5_lies (cxR (by decide) (by decide))) rfl hl.1 rfl (Nat.le_of_ble_eq_true rfl) dX5_roads_79 ⟨Nat.le_refl _, Nat.le_refl _⟩ (fun H locs hM => ?_)
      refine e_iinc X hl 2 hE (fun v12 => [(2, vI v12), (0, .ref (ad 40)), (1, vI b1)]) rfl dX5_roads_82 (by decide) (fun _ => rfl) (fun v12 hE ls hl => ?_)
      refine e_goto X dX5_roads_85 rfl ?_
      exact ih M11 v12 _ _ _ hE hM (lv_sub hl [1, 2, 0] rfl) hk
theorem wb_X5_roads {p : Program} {l : Launch} {e : Env} {s : State} {m : MethodId} {args : Array Value} {below : List Frame} {meth : Method} {c : Code} {G : GG} {ad : Nat → Nat} {hp0 : HP} (X : CX p s m args meth c cX5_roads 3 RX5 (some .int) G) {N : Nat} {M : RM}   {out : (Int × RM)} (hE : f_X5_roads N M = some out) {H : Heap} {locs : List Loc} {ls : Array Slot} (hM : RW G dX5 ad hp0 M H locs) (hl : lv_has ls 3 [(0, .ref (ad 40))]) : W p l e (rmD 6) s m args below meth c H locs 0 0 (QR below G dX5 ad hp0 args s (some (vI out.1)) out.2) (F0 m 0 ls []) := by
  unfold f_X5_roads at hE
  refine e_aload_n X hl 0 rfl dX5_roads_0 rfl ?_
  refine e_iconst X dX5_roads_1 ?_
  obtain ⟨v1, M2, h, hE⟩ := ob2_some hE
  refine r_callV1 X hM 40 rfl ck_X5 (rest := []) (met_X5_reads l G ad hp0 M 1 h) (cwV 1 X.ht (lw_V q3264 q3266 qs85 q170 q3267) rfl rfl rfl hd_X5_reads (cxR (by decide) (by decide))) rfl hl.1 rfl (Nat.le_of_ble_eq_true rfl) dX5_roads_2 ⟨Nat.le_refl _, Nat.le_refl _⟩ (fun H locs hM => ?_)
  refine e_istore_n X hl [(1, vI v1), (0, .ref (ad 40))] dX5_roads_5 rfl (by decide) rfl (fun ls hl => ?_)
  refine e_iload_n X hl 0 rfl dX5_roads_6 rfl ?_
  refine e_if_ge X (w32 v1) rfl hE dX5_roads_7 rfl (fun hE => ?_) (fun hE => ?_)
  · refine e_aload_n X hl 1 rfl dX5_roads_12 rfl ?_
    obtain ⟨M3, h, hE⟩ := ob_some hE
    refine r_callV0 X hM 40 rfl ck_X5 (rest := []) (met_X5_keeps l G ad hp0 M2 h) (cwV 0 X.ht (lw_V q3175 q3177 qs73 q170 q3178) rfl rfl rfl hd_X5_keeps (cxR (by decide) (by decide))) rfl hl.1 rfl (Nat.le_of_ble_eq_true rfl) dX5_roads_13 ⟨Nat.le_refl _, Nat.le_refl _⟩ (fun H locs hM => ?_)
    refine e_iconst X dX5_roads_16 ?_
    refine e_istore_n X hl [(2, vI 0), (1, vI v1), (0, .ref (ad 40))] dX5_roads_17 rfl (by decide) rfl (fun ls hl => ?_)
    refine wl_X5_roads_18 X _ M3 0 _ _ _ hE hM (lv_sub hl [2, 1, 0] rfl) (fun M13 v14 H locs ls hM hl hE => ?_)
    refine e_iload_n X hl 1 rfl dX5_roads_88 rfl ?_
    cases hE
    exact r_zret X hM rfl dX5_roads_89
  · refine e_iload_n X hl 0 rfl dX5_roads_10 rfl ?_
    cases hE
    exact r_zret X hM rfl dX5_roads_11
theorem met_X5_roads (l : Launch) (G : GG) (ad : Nat → Nat) (hp0 : HP) {N : Nat} (M : RM)   {out : (Int × RM)} (hE : f_X5_roads N M = some out) : MR l yX5_roads (ws_ yX5_roads cX5_roads 3 (some .int)) 6 G dX5 ad hp0 [.ref (ad 40)] M (some (vI out.1)) out.2 :=
  MR.of (by decide) (Nat.le_of_ble_eq_true rfl) rfl (fun p e s m below meth c ls X hM hl => wb_X5_roads X hE hM hl)
def f_X5_supplies_L18 (N : Nat) (b1 : Int) (k : RM → Int → Option (Int × RM)) : Nat → RM → Int → Option (Int × RM)
  | 0, _, _ => none
  | n + 1, M, x2 =>
    ob (f_X5_towns_2 M) fun v4 => if w32 v4 ≤ w32 x2 then (k M x2) else (ob (gA 100 M 21 (8 + x2)) fun v5 => jn (fun (M7 : RM) => jn (x2 + 1) fun v8 => f_X5_supplies_L18 N b1 k n M7 v8) fun kj6 => if ¬ w32 v5 = 1 then (kj6 M) else (ob (gA 100 M 21 x2) fun v9 => ob (sA 110 M 0 (2 + x2) v9) fun M10 => kj6 M10))
def f_X5_supplies (N : Nat) (M : RM)  : Option (Int × RM) :=
  ob2 (f_X5_reads N M 0) fun v1 M2 => if 0 ≤ w32 v1 then (ob (f_X5_keeps N M2) fun M3 => f_X5_supplies_L18 N v1 (fun (M11 : RM) (v12 : Int) => some (v1, M11)) N M3 0) else (some (v1, M2))
theorem hd_X5_supplies : yX5_supplies.cls = RX5 ∧ yX5_supplies.cls ≠ "java/lang/invoke/MethodHandle" ∧ yX5_supplies.cls ≠ "java/lang/invoke/VarHandle" ∧ (parseMethodDescriptor yX5_supplies.desc).map (fun d => d.parameters.length) = some 0 := by decide +kernel
theorem wl_X5_supplies_18 {p : Program} {l : Launch} {e : Env} {s : State} {m : MethodId} {args : Array Value} {below : List Frame} {meth : Method} {c : Code} {G : GG} {ad : Nat → Nat} {hp0 : HP} (X : CX p s m args meth c cX5_supplies 3 RX5 (some .int) G) {N : Nat} {b1 : Int}  {k : RM → Int → Option (Int × RM)} {out : (Int × RM)} : ∀ (n : Nat) (M : RM) (x2 : Int) (H : Heap) (locs : List Loc) (ls : Array Slot) (hE : f_X5_supplies_L18 N b1 k n M x2 = some out) (hM : RW G dX5 ad hp0 M H locs) (hl : lv_has ls 3 [(0, .ref (ad 40)), (1, vI b1), (2, vI x2)]) (hk : ∀ (M : RM) (x2 : Int) (H : Heap) (locs : List Loc) (ls : Array Slot), RW G dX5 ad hp0 M H locs → lv_has ls 3 [(0, .ref (ad 40)), (1, vI b1), (2, vI x2)] → k M x2 = some out → W p l e (rmD 6) s m args below meth c H locs 0 0 (QR below G dX5 ad hp0 args s (some (vI out.1)) out.2) (F0 m 59 ls [])), W p l e (rmD 6) s m args below meth c H locs 0 0 (QR below G dX5 ad hp0 args s (some (vI out.1)) out.2) (F0 m 18 ls []) := by
  intro n
  induction n with
  | zero =>
    intro M x2 H locs ls hE hM hl hk
    unfold f_X5_supplies_L18 at hE
    cases hE
  | succ n ih =>
    intro M x2 H locs ls hE hM hl hk
    unfold f_X5_supplies_L18 at hE
    refine e_iload_n X hl 2 rfl dX5_supplies_18 rfl ?_
    refine e_aload_n X hl 0 rfl dX5_supplies_19 rfl ?_
    obtain ⟨v4, h, hE⟩ := ob_some hE
    refine r_callV1 X hM 40 rfl ck_X5 (rest := [vI x2]) (met_X5_towns_2 l G ad hp0 M h) (cwV 0 X.ht (lw_V q3187 q3189 qs75 q170 q3190) rfl rfl rfl hd_X5_towns_2 (cxR (by decide) (by decide))) rfl hl.1 rfl (Nat.le_of_ble_eq_true rfl) dX5_supplies_20 ⟨Nat.le_refl _, Nat.le_refl _⟩ (fun H locs hM => ?_)
    refine e_icmp_ge X (w32 x2) (w32 v4) rfl rfl hE dX5_supplies_23 rfl (fun hE => ?_) (fun hE => ?_)
    · exact hk M x2 _ _ _ hM (lv_sub hl [0, 1, 2] rfl) hE
    · refine e_aload_n X hl 0 rfl dX5_supplies_26 rfl ?_
      refine r_getR X hM ck_X5 40 21 rfl rfl (by decide) q3055 rfl dX5_supplies_27 ?_
      refine e_bipush X dX5_supplies_30 (by decide) ?_
      refine e_iload_n X hl 2 rfl dX5_supplies_32 rfl ?_
      refine e_iadd X dX5_supplies_33 ?_
      refine r_iald X hM 21 rfl (Nat.le_of_ble_eq_true rfl) hE dX5_supplies_34 (fun v5 hE => ?_)
      refine e_iconst X dX5_supplies_35 ?_
      obtain ⟨kj6, hkj6, hE⟩ := jn_ex hE
      have hjkj6 : ∀ (M7 : RM) (H : Heap) (locs : List Loc) (ls : Array Slot), RW G dX5 ad hp0 M7 H locs → lv_has ls 3 [(0, .ref (ad 40)), (1, vI b1), (2, vI x2)] → kj6 M7 = some out → W p l e (rmD 6) s m args below meth c H locs 0 0 (QR below G dX5 ad hp0 args s (some (vI out.1)) out.2) (F0 m 53 ls []) := by
        intro M7 H locs ls hM hl hE
        subst hkj6
        refine e_iinc X hl 2 hE (fun v8 => [(2, vI v8), (0, .ref (ad 40)), (1, vI b1)]) rfl dX5_supplies_53 (by decide) (fun _ => rfl) (fun v8 hE ls hl => ?_)
        refine e_goto X dX5_supplies_56 rfl ?_
        exact ih M7 v8 _ _ _ hE hM (lv_sub hl [1, 2, 0] rfl) hk
      refine e_icmp_ne X (w32 v5) 1 rfl (by decide) hE dX5_supplies_36 rfl (fun hE => ?_) (fun hE => ?_)
      · exact hjkj6 M _ _ _ hM (lv_sub hl [0, 1, 2] rfl) hE
      · refine e_aload_n X hl 0 rfl dX5_supplies_39 rfl ?_
        refine r_getR X hM ck_X5 40 0 rfl rfl (by decide) q3034 rfl dX5_supplies_40 ?_
        refine e_iconst X dX5_supplies_43 ?_
        refine e_iload_n X hl 2 rfl dX5_supplies_44 rfl ?_
        refine e_iadd X dX5_supplies_45 ?_
        refine e_aload_n X hl 0 rfl dX5_supplies_46 rfl ?_
        refine r_getR X hM ck_X5 40 21 rfl rfl (by decide) q3055 rfl dX5_supplies_47 ?_
        refine e_iload_n X hl 2 rfl dX5_supplies_50 rfl ?_
        refine r_iald X hM 21 rfl (Nat.le_of_ble_eq_true rfl) hE dX5_supplies_51 (fun v9 hE => ?_)
        refine r_iast X hM 0 rfl (Nat.le_of_ble_eq_true rfl) hE dX5_supplies_52 (fun M10 hE H locs hM => ?_)
        exact hjkj6 M10 _ _ _ hM (lv_sub hl [0, 1, 2] rfl) hE
theorem wb_X5_supplies {p : Program} {l : Launch} {e : Env} {s : State} {m : MethodId} {args : Array Value} {below : List Frame} {meth : Method} {c : Code} {G : GG} {ad : Nat → Nat} {hp0 : HP} (X : CX p s m args meth c cX5_supplies 3 RX5 (some .int) G) {N : Nat} {M : RM}   {out : (Int × RM)} (hE : f_X5_supplies N M = some out) {H : Heap} {locs : List Loc} {ls : Array Slot} (hM : RW G dX5 ad hp0 M H locs) (hl : lv_has ls 3 [(0, .ref (ad 40))]) : W p l e (rmD 6) s m args below meth c H locs 0 0 (QR below G dX5 ad hp0 args s (some (vI out.1)) out.2) (F0 m 0 ls []) := by
  unfold f_X5_supplies at hE
  refine e_aload_n X hl 0 rfl dX5_supplies_0 rfl ?_
  refine e_iconst X dX5_supplies_1 ?_
  obtain ⟨v1, M2, h, hE⟩ := ob2_some hE
  refine r_callV1 X hM 40 rfl ck_X5 (rest := []) (met_X5_reads l G ad hp0 M 0 h) (cwV 1 X.ht (lw_V q3264 q3266 qs85 q170 q3267) rfl rfl rfl hd_X5_reads (cxR (by decide) (by decide))) rfl hl.1 rfl (Nat.le_of_ble_eq_true rfl) dX5_supplies_2 ⟨Nat.le_refl _, Nat.le_refl _⟩ (fun H locs hM => ?_)
  refine e_istore_n X hl [(1, vI v1), (0, .ref (ad 40))] dX5_supplies_5 rfl (by decide) rfl (fun ls hl => ?_)
  refine e_iload_n X hl 0 rfl dX5_supplies_6 rfl ?_
  refine e_if_ge X (w32 v1) rfl hE dX5_supplies_7 rfl (fun hE => ?_) (fun hE => ?_)
  · refine e_aload_n X hl 1 rfl dX5_supplies_12 rfl ?_
    obtain ⟨M3, h, hE⟩ := ob_some hE
    refine r_callV0 X hM 40 rfl ck_X5 (rest := []) (met_X5_keeps l G ad hp0 M2 h) (cwV 0 X.ht (lw_V q3175 q3177 qs73 q170 q3178) rfl rfl rfl hd_X5_keeps (cxR (by decide) (by decide))) rfl hl.1 rfl (Nat.le_of_ble_eq_true rfl) dX5_supplies_13 ⟨Nat.le_refl _, Nat.le_refl _⟩ (fun H locs hM => ?_)
    refine e_iconst X dX5_supplies_16 ?_
    refine e_istore_n X hl [(2, vI 0), (1, vI v1), (0, .ref (ad 40))] dX5_supplies_17 rfl (by decide) rfl (fun ls hl => ?_)
    refine wl_X5_supplies_18 X _ M3 0 _ _ _ hE hM (lv_sub hl [2, 1, 0] rfl) (fun M11 v12 H locs ls hM hl hE => ?_)
    refine e_iload_n X hl 1 rfl dX5_supplies_59 rfl ?_
    cases hE
    exact r_zret X hM rfl dX5_supplies_60
  · refine e_iload_n X hl 0 rfl dX5_supplies_10 rfl ?_
    cases hE
    exact r_zret X hM rfl dX5_supplies_11
theorem met_X5_supplies (l : Launch) (G : GG) (ad : Nat → Nat) (hp0 : HP) {N : Nat} (M : RM)   {out : (Int × RM)} (hE : f_X5_supplies N M = some out) : MR l yX5_supplies (ws_ yX5_supplies cX5_supplies 3 (some .int)) 6 G dX5 ad hp0 [.ref (ad 40)] M (some (vI out.1)) out.2 :=
  MR.of (by decide) (Nat.le_of_ble_eq_true rfl) rfl (fun p e s m below meth c ls X hM hl => wb_X5_supplies X hE hM hl)
def f_X5_balance_L2 (N : Nat)  (k : RM → Int → Option RM) : Nat → RM → Int → Option RM
  | 0, _, _ => none
  | n + 1, M, x1 =>
    ob (f_X5_towns_2 M) fun v1 => if w32 v1 ≤ w32 x1 then (k M x1) else (ob (gA 110 M 0 (2 + x1)) fun v2 => ob (sA 8 M 15 x1 v2) fun M3 => jn (x1 + 1) fun v4 => f_X5_balance_L2 N  k n M3 v4)
def f_X5_balance_L32 (N : Nat)  (k : RM → Int → Option RM) : Nat → RM → Int → Option RM
  | 0, _, _ => none
  | n + 1, M, x1 =>
    ob (f_X5_many M) fun v7 => if w32 v7 ≤ w32 x1 then (k M x1) else (ob (f_X5_from M x1) fun v8 => ob (gA 8 M 15 v8) fun v9 => ob (gA 25 M 14 x1) fun v10 => ob (sA 8 M 15 v8 (v9 - v10)) fun M11 => ob (f_X5_to M11 x1) fun v12 => ob (gA 8 M11 15 v12) fun v13 => ob (gA 25 M11 14 x1) fun v14 => ob (sA 8 M11 15 v12 (v13 + v14)) fun M15 => jn (x1 + 1) fun v16 => f_X5_balance_L32 N  k n M15 v16)
def f_X5_balance (N : Nat) (M : RM)  : Option RM :=
  f_X5_balance_L2 N  (fun (M5 : RM) (v6 : Int) => f_X5_balance_L32 N  (fun (M17 : RM) (v18 : Int) => some M17) N M5 0) N M 0
theorem hd_X5_balance : yX5_balance.cls = RX5 ∧ yX5_balance.cls ≠ "java/lang/invoke/MethodHandle" ∧ yX5_balance.cls ≠ "java/lang/invoke/VarHandle" ∧ (parseMethodDescriptor yX5_balance.desc).map (fun d => d.parameters.length) = some 0 := by decide +kernel
theorem wl_X5_balance_2 {p : Program} {l : Launch} {e : Env} {s : State} {m : MethodId} {args : Array Value} {below : List Frame} {meth : Method} {c : Code} {G : GG} {ad : Nat → Nat} {hp0 : HP} (X : CX p s m args meth c cX5_balance 2 RX5 none G) {N : Nat}   {k : RM → Int → Option RM} {out : RM} : ∀ (n : Nat) (M : RM) (x1 : Int) (H : Heap) (locs : List Loc) (ls : Array Slot) (hE : f_X5_balance_L2 N  k n M x1 = some out) (hM : RW G dX5 ad hp0 M H locs) (hl : lv_has ls 2 [(0, .ref (ad 40)), (1, vI x1)]) (hk : ∀ (M : RM) (x1 : Int) (H : Heap) (locs : List Loc) (ls : Array Slot), RW G dX5 ad hp0 M H locs → lv_has ls 2 [(0, .ref (ad 40)), (1, vI x1)] → k M x1 = some out → W p l e (rmD 1) s m args below meth c H locs 0 0 (QR below G dX5 ad hp0 args s none out) (F0 m 30 ls [])), W p l e (rmD 1) s m args below meth c H locs 0 0 (QR below G dX5 ad hp0 args s none out) (F0 m 2 ls []) := by
  intro n
  induction n with
  | zero =>
    intro M x1 H locs ls hE hM hl hk
    unfold f_X5_balance_L2 at hE
    cases hE
  | succ n ih =>
    intro M x1 H locs ls hE hM hl hk
    unfold f_X5_balance_L2 at hE
    refine e_iload_n X hl 1 rfl dX5_balance_2 rfl ?_
    refine e_aload_n X hl 0 rfl dX5_balance_3 rfl ?_
    obtain ⟨v1, h, hE⟩ := ob_some hE
    refine r_callV1 X hM 40 rfl ck_X5 (rest := [vI x1]) (met_X5_towns_2 l G ad hp0 M h) (cwV 0 X.ht (lw_V q3187 q3189 qs75 q170 q3190) rfl rfl rfl hd_X5_towns_2 (cxR (by decide) (by decide))) rfl hl.1 rfl (Nat.le_of_ble_eq_true rfl) dX5_balance_4 ⟨Nat.le_refl _, Nat.le_refl _⟩ (fun H locs hM => ?_)
    refine e_icmp_ge X (w32 x1) (w32 v1) rfl rfl hE dX5_balance_7 rfl (fun hE => ?_) (fun hE => ?_)
    · exact hk M x1 _ _ _ hM (lv_sub hl [0, 1] rfl) hE
    · refine e_aload_n X hl 0 rfl dX5_balance_10 rfl ?_
      refine r_getR X hM ck_X5 40 15 rfl rfl (by decide) q3049 rfl dX5_balance_11 ?_
      refine e_iload_n X hl 1 rfl dX5_balance_14 rfl ?_
      refine e_aload_n X hl 0 rfl dX5_balance_15 rfl ?_
      refine r_getR X hM ck_X5 40 0 rfl rfl (by decide) q3034 rfl dX5_balance_16 ?_
      refine e_iconst X dX5_balance_19 ?_
      refine e_iload_n X hl 1 rfl dX5_balance_20 rfl ?_
      refine e_iadd X dX5_balance_21 ?_
      refine r_iald X hM 0 rfl (Nat.le_of_ble_eq_true rfl) hE dX5_balance_22 (fun v2 hE => ?_)
      refine r_iast X hM 15 rfl (Nat.le_of_ble_eq_true rfl) hE dX5_balance_23 (fun M3 hE H locs hM => ?_)
      refine e_iinc X hl 1 hE (fun v4 => [(1, vI v4), (0, .ref (ad 40))]) rfl dX5_balance_24 (by decide) (fun _ => rfl) (fun v4 hE ls hl => ?_)
      refine e_goto X dX5_balance_27 rfl ?_
      exact ih M3 v4 _ _ _ hE hM (lv_sub hl [1, 0] rfl) hk
theorem wl_X5_balance_32 {p : Program} {l : Launch} {e : Env} {s : State} {m : MethodId} {args : Array Value} {below : List Frame} {meth : Method} {c : Code} {G : GG} {ad : Nat → Nat} {hp0 : HP} (X : CX p s m args meth c cX5_balance 2 RX5 none G) {N : Nat}   {k : RM → Int → Option RM} {out : RM} : ∀ (n : Nat) (M : RM) (x1 : Int) (H : Heap) (locs : List Loc) (ls : Array Slot) (hE : f_X5_balance_L32 N  k n M x1 = some out) (hM : RW G dX5 ad hp0 M H locs) (hl : lv_has ls 2 [(0, .ref (ad 40)), (1, vI x1)]) (hk : ∀ (M : RM) (x1 : Int) (H : Heap) (locs : List Loc) (ls : Array Slot), RW G dX5 ad hp0 M H locs → lv_has ls 2 [(0, .ref (ad 40)), (1, vI x1)] → k M x1 = some out → W p l e (rmD 1) s m args below meth c H locs 0 0 (QR below G dX5 ad hp0 args s none out) (F0 m 84 ls [])), W p l e (rmD 1) s m args below meth c H locs 0 0 (QR below G dX5 ad hp0 args s none out) (F0 m 32 ls []) := by
  intro n
  induction n with
  | zero =>
    intro M x1 H locs ls hE hM hl hk
    unfold f_X5_balance_L32 at hE
    cases hE
  | succ n ih =>
    intro M x1 H locs ls hE hM hl hk
    unfold f_X5_balance_L32 at hE
    refine e_iload_n X hl 1 rfl dX5_balance_32 rfl ?_
    refine e_aload_n X hl 0 rfl dX5_balance_33 rfl ?_
    obtain ⟨v7, h, hE⟩ := ob_some hE
    refine r_callV1 X hM 40 rfl ck_X5 (rest := [vI x1]) (met_X5_many l G ad hp0 M h) (cwV 0 X.ht (lw_V q3206 q3208 qs77 q170 q3209) rfl rfl rfl hd_X5_many (cxR (by decide) (by decide))) rfl hl.1 rfl (Nat.le_of_ble_eq_true rfl) dX5_balance_34 ⟨Nat.le_refl _, Nat.le_refl _⟩ (fun H locs hM => ?_)
    refine e_icmp_ge X (w32 x1) (w32 v7) rfl rfl hE dX5_balance_37 rfl (fun hE => ?_) (fun hE => ?_)
    · exact hk M x1 _ _ _ hM (lv_sub hl [0, 1] rfl) hE
    · refine e_aload_n X hl 0 rfl dX5_balance_40 rfl ?_
      refine r_getR X hM ck_X5 40 15 rfl rfl (by decide) q3049 rfl dX5_balance_41 ?_
      refine e_aload_n X hl 0 rfl dX5_balance_44 rfl ?_
      refine e_iload_n X hl 1 rfl dX5_balance_45 rfl ?_
      obtain ⟨v8, h, hE⟩ := ob_some hE
      refine r_callV1 X hM 40 rfl ck_X5 (rest := [.ref (ad 15)]) (met_X5_from l G ad hp0 M x1 h) (cwV 1 X.ht (lw_V q3222 q3224 qs80 q170 q3225) rfl rfl rfl hd_X5_from (cxR (by decide) (by decide))) rfl hl.1 rfl (Nat.le_of_ble_eq_true rfl) dX5_balance_46 ⟨Nat.le_refl _, Nat.le_refl _⟩ (fun H locs hM => ?_)
      refine e_dup2 X dX5_balance_49 rfl rfl ?_
      refine r_iald X hM 15 rfl (Nat.le_of_ble_eq_true rfl) hE dX5_balance_50 (fun v9 hE => ?_)
      refine e_aload_n X hl 0 rfl dX5_balance_51 rfl ?_
      refine r_getR X hM ck_X5 40 14 rfl rfl (by decide) q3048 rfl dX5_balance_52 ?_
      refine e_iload_n X hl 1 rfl dX5_balance_55 rfl ?_
      refine r_iald X hM 14 rfl (Nat.le_of_ble_eq_true rfl) hE dX5_balance_56 (fun v10 hE => ?_)
      refine e_isub X dX5_balance_57 ?_
      refine r_iast X hM 15 rfl (Nat.le_of_ble_eq_true rfl) hE dX5_balance_58 (fun M11 hE H locs hM => ?_)
      refine e_aload_n X hl 0 rfl dX5_balance_59 rfl ?_
      refine r_getR X hM ck_X5 40 15 rfl rfl (by decide) q3049 rfl dX5_balance_60 ?_
      refine e_aload_n X hl 0 rfl dX5_balance_63 rfl ?_
      refine e_iload_n X hl 1 rfl dX5_balance_64 rfl ?_
      obtain ⟨v12, h, hE⟩ := ob_some hE
      refine r_callV1 X hM 40 rfl ck_X5 (rest := [.ref (ad 15)]) (met_X5_to l G ad hp0 M11 x1 h) (cwV 1 X.ht (lw_V q3226 q3228 qs81 q170 q3229) rfl rfl rfl hd_X5_to (cxR (by decide) (by decide))) rfl hl.1 rfl (Nat.le_of_ble_eq_true rfl) dX5_balance_65 ⟨Nat.le_refl _, Nat.le_refl _⟩ (fun H locs hM => ?_)
      refine e_dup2 X dX5_balance_68 rfl rfl ?_
      refine r_iald X hM 15 rfl (Nat.le_of_ble_eq_true rfl) hE dX5_balance_69 (fun v13 hE => ?_)
      refine e_aload_n X hl 0 rfl dX5_balance_70 rfl ?_
      refine r_getR X hM ck_X5 40 14 rfl rfl (by decide) q3048 rfl dX5_balance_71 ?_
      refine e_iload_n X hl 1 rfl dX5_balance_74 rfl ?_
      refine r_iald X hM 14 rfl (Nat.le_of_ble_eq_true rfl) hE dX5_balance_75 (fun v14 hE => ?_)
      refine e_iadd X dX5_balance_76 ?_
      refine r_iast X hM 15 rfl (Nat.le_of_ble_eq_true rfl) hE dX5_balance_77 (fun M15 hE H locs hM => ?_)
      refine e_iinc X hl 1 hE (fun v16 => [(1, vI v16), (0, .ref (ad 40))]) rfl dX5_balance_78 (by decide) (fun _ => rfl) (fun v16 hE ls hl => ?_)
      refine e_goto X dX5_balance_81 rfl ?_
      exact ih M15 v16 _ _ _ hE hM (lv_sub hl [1, 0] rfl) hk
theorem wb_X5_balance {p : Program} {l : Launch} {e : Env} {s : State} {m : MethodId} {args : Array Value} {below : List Frame} {meth : Method} {c : Code} {G : GG} {ad : Nat → Nat} {hp0 : HP} (X : CX p s m args meth c cX5_balance 2 RX5 none G) {N : Nat} {M : RM}   {out : RM} (hE : f_X5_balance N M = some out) {H : Heap} {locs : List Loc} {ls : Array Slot} (hM : RW G dX5 ad hp0 M H locs) (hl : lv_has ls 2 [(0, .ref (ad 40))]) : W p l e (rmD 1) s m args below meth c H locs 0 0 (QR below G dX5 ad hp0 args s none out) (F0 m 0 ls []) := by
  unfold f_X5_balance at hE
  refine e_iconst X dX5_balance_0 ?_
  refine e_istore_n X hl [(1, vI 0), (0, .ref (ad 40))] dX5_balance_1 rfl (by decide) rfl (fun ls hl => ?_)
  refine wl_X5_balance_2 X _ M 0 _ _ _ hE hM (lv_sub hl [1, 0] rfl) (fun M5 v6 H locs ls hM hl hE => ?_)
  refine e_iconst X dX5_balance_30 ?_
  refine e_istore_n X hl [(1, vI 0), (0, .ref (ad 40))] dX5_balance_31 rfl (by decide) rfl (fun ls hl => ?_)
  refine wl_X5_balance_32 X _ M5 0 _ _ _ hE hM (lv_sub hl [1, 0] rfl) (fun M17 v18 H locs ls hM hl hE => ?_)
  cases hE
  exact r_vret X hM dX5_balance_84
theorem met_X5_balance (l : Launch) (G : GG) (ad : Nat → Nat) (hp0 : HP) {N : Nat} (M : RM)   {out : RM} (hE : f_X5_balance N M = some out) : MR l yX5_balance (ws_ yX5_balance cX5_balance 2 none) 1 G dX5 ad hp0 [.ref (ad 40)] M none out :=
  MR.of (by decide) (Nat.le_of_ble_eq_true rfl) rfl (fun p e s m below meth c ls X hM hl => wb_X5_balance X hE hM hl)
def f_X5_leads (M0 : RM) (a1 : Int) (a2 : Int) : Option Int :=
  jn (fun (v2 : Int) => if ¬ w32 v2 = w32 a2 then (ob (f_X5_to M0 (iDiv a1 2)) fun v3 => some v3) else (ob (f_X5_from M0 (iDiv a1 2)) fun v4 => some v4)) fun kj1 => if ¬ w32 (iRem a1 2) = 0 then (kj1 0) else (kj1 1)
theorem hd_X5_leads : yX5_leads.cls = RX5 ∧ yX5_leads.cls ≠ "java/lang/invoke/MethodHandle" ∧ yX5_leads.cls ≠ "java/lang/invoke/VarHandle" ∧ (parseMethodDescriptor yX5_leads.desc).map (fun d => d.parameters.length) = some 2 := by decide +kernel
theorem wb_X5_leads {p : Program} {l : Launch} {e : Env} {s : State} {m : MethodId} {args : Array Value} {below : List Frame} {meth : Method} {c : Code} {G : GG} {ad : Nat → Nat} {hp0 : HP} {M0 : RM} (X : CX p s m args meth c cX5_leads 3 RX5 (some .int) G) {a1 : Int} {a2 : Int}   {out : Int} (hE : f_X5_leads M0 a1 a2 = some out) {H : Heap} {locs : List Loc} {ls : Array Slot} (hM : RW G dX5 ad hp0 M0 H locs) (hl : lv_has ls 3 [(0, .ref (ad 40)), (1, vI a1), (2, vI a2)]) : W p l e (rmD 1) s m args below meth c H locs 0 0 (QR below G dX5 ad hp0 args s (some (vI out)) M0) (F0 m 0 ls []) := by
  unfold f_X5_leads at hE
  refine e_iload_n X hl 1 rfl dX5_leads_0 rfl ?_
  refine e_iconst X dX5_leads_1 ?_
  refine e_irem X (by decide) dX5_leads_2 ?_
  obtain ⟨kj1, hkj1, hE⟩ := jn_ex hE
  have hjkj1 : ∀ (v2 : Int) (H : Heap) (locs : List Loc) (ls : Array Slot), RW G dX5 ad hp0 M0 H locs → lv_has ls 3 [(0, .ref (ad 40)), (1, vI a1), (2, vI a2)] → kj1 v2 = some out → W p l e (rmD 1) s m args below meth c H locs 0 0 (QR below G dX5 ad hp0 args s (some (vI out)) M0) (F0 m 11 ls [vI v2]) := by
    intro v2 H locs ls hM hl hE
    subst hkj1
    refine e_iload_n X hl 2 rfl dX5_leads_11 rfl ?_
    refine e_icmp_ne X (w32 v2) (w32 a2) rfl rfl hE dX5_leads_12 rfl (fun hE => ?_) (fun hE => ?_)
    · refine e_aload_n X hl 0 rfl dX5_leads_25 rfl ?_
      refine e_iload_n X hl 1 rfl dX5_leads_26 rfl ?_
      refine e_iconst X dX5_leads_27 ?_
      refine e_idiv X (by decide) dX5_leads_28 ?_
      obtain ⟨v3, h, hE⟩ := ob_some hE
      refine r_callV1 X hM 40 rfl ck_X5 (rest := []) (met_X5_to l G ad hp0 M0 (iDiv a1 2) h) (cwV 1 X.ht (lw_V q3226 q3228 qs81 q170 q3229) rfl rfl rfl hd_X5_to (cxR (by decide) (by decide))) rfl hl.1 rfl (Nat.le_of_ble_eq_true rfl) dX5_leads_29 ⟨Nat.le_refl _, Nat.le_refl _⟩ (fun H locs hM => ?_)
      cases hE
      exact r_zret X hM rfl dX5_leads_32
    · refine e_aload_n X hl 0 rfl dX5_leads_15 rfl ?_
      refine e_iload_n X hl 1 rfl dX5_leads_16 rfl ?_
      refine e_iconst X dX5_leads_17 ?_
      refine e_idiv X (by decide) dX5_leads_18 ?_
      obtain ⟨v4, h, hE⟩ := ob_some hE
      refine r_callV1 X hM 40 rfl ck_X5 (rest := []) (met_X5_from l G ad hp0 M0 (iDiv a1 2) h) (cwV 1 X.ht (lw_V q3222 q3224 qs80 q170 q3225) rfl rfl rfl hd_X5_from (cxR (by decide) (by decide))) rfl hl.1 rfl (Nat.le_of_ble_eq_true rfl) dX5_leads_19 ⟨Nat.le_refl _, Nat.le_refl _⟩ (fun H locs hM => ?_)
      refine e_goto X dX5_leads_22 rfl ?_
      cases hE
      exact r_zret X hM rfl dX5_leads_32
  refine e_if_ne X (w32 (iRem a1 2)) rfl hE dX5_leads_3 rfl (fun hE => ?_) (fun hE => ?_)
  · refine e_iconst X dX5_leads_10 ?_
    exact hjkj1 0 _ _ _ hM (lv_sub hl [0, 1, 2] rfl) hE
  · refine e_iconst X dX5_leads_6 ?_
    refine e_goto X dX5_leads_7 rfl ?_
    exact hjkj1 1 _ _ _ hM (lv_sub hl [0, 1, 2] rfl) hE
theorem met_X5_leads (l : Launch) (G : GG) (ad : Nat → Nat) (hp0 : HP) (M0 : RM) (a1 : Int) (a2 : Int)  {out : Int} (hE : f_X5_leads M0 a1 a2 = some out) : MR l yX5_leads (ws_ yX5_leads cX5_leads 3 (some .int)) 1 G dX5 ad hp0 [.ref (ad 40), vI a1, vI a2] M0 (some (vI out)) M0 :=
  MR.of (by decide) (Nat.le_of_ble_eq_true rfl) rfl (fun p e s m below meth c ls X hM hl => wb_X5_leads X hE hM hl)
def f_X5_room (M0 : RM) (a1 : Int) : Option Int :=
  jn (iDiv a1 2) fun v1 => if ¬ w32 (iRem a1 2) = 0 then (ob (gA 25 M0 14 v1) fun v2 => ob (f_X5_low M0 v1) fun v3 => some (v2 - v3)) else (ob (f_X5_most M0 v1) fun v4 => ob (gA 25 M0 14 v1) fun v5 => some (v4 - v5))
theorem hd_X5_room : yX5_room.cls = RX5 ∧ yX5_room.cls ≠ "java/lang/invoke/MethodHandle" ∧ yX5_room.cls ≠ "java/lang/invoke/VarHandle" ∧ (parseMethodDescriptor yX5_room.desc).map (fun d => d.parameters.length) = some 1 := by decide +kernel
theorem wb_X5_room {p : Program} {l : Launch} {e : Env} {s : State} {m : MethodId} {args : Array Value} {below : List Frame} {meth : Method} {c : Code} {G : GG} {ad : Nat → Nat} {hp0 : HP} {M0 : RM} (X : CX p s m args meth c cX5_room 3 RX5 (some .int) G) {a1 : Int}   {out : Int} (hE : f_X5_room M0 a1 = some out) {H : Heap} {locs : List Loc} {ls : Array Slot} (hM : RW G dX5 ad hp0 M0 H locs) (hl : lv_has ls 3 [(0, .ref (ad 40)), (1, vI a1)]) : W p l e (rmD 1) s m args below meth c H locs 0 0 (QR below G dX5 ad hp0 args s (some (vI out)) M0) (F0 m 0 ls []) := by
  unfold f_X5_room at hE
  refine e_iload_n X hl 1 rfl dX5_room_0 rfl ?_
  refine e_iconst X dX5_room_1 ?_
  refine e_idiv X (by decide) dX5_room_2 ?_
  refine e_top hE (fun v1 hE => ?_)
  refine e_istore_n X hl [(2, vI v1), (0, .ref (ad 40)), (1, vI a1)] dX5_room_3 rfl (by decide) rfl (fun ls hl => ?_)
  refine e_iload_n X hl 2 rfl dX5_room_4 rfl ?_
  refine e_iconst X dX5_room_5 ?_
  refine e_irem X (by decide) dX5_room_6 ?_
  refine e_if_ne X (w32 (iRem a1 2)) rfl hE dX5_room_7 rfl (fun hE => ?_) (fun hE => ?_)
  · refine e_aload_n X hl 1 rfl dX5_room_25 rfl ?_
    refine r_getR X hM ck_X5 40 14 rfl rfl (by decide) q3048 rfl dX5_room_26 ?_
    refine e_iload_n X hl 0 rfl dX5_room_29 rfl ?_
    refine r_iald X hM 14 rfl (Nat.le_of_ble_eq_true rfl) hE dX5_room_30 (fun v2 hE => ?_)
    refine e_aload_n X hl 1 rfl dX5_room_31 rfl ?_
    refine e_iload_n X hl 0 rfl dX5_room_32 rfl ?_
    obtain ⟨v3, h, hE⟩ := ob_some hE
    refine r_callV1 X hM 40 rfl ck_X5 (rest := [vI v2]) (met_X5_low l G ad hp0 M0 v1 h) (cwV 1 X.ht (lw_V q3238 q3240 qs83 q170 q3241) rfl rfl rfl hd_X5_low (cxR (by decide) (by decide))) rfl hl.1 rfl (Nat.le_of_ble_eq_true rfl) dX5_room_33 ⟨Nat.le_refl _, Nat.le_refl _⟩ (fun H locs hM => ?_)
    refine e_isub X dX5_room_36 ?_
    cases hE
    exact r_zret X hM rfl dX5_room_37
  · refine e_aload_n X hl 1 rfl dX5_room_10 rfl ?_
    refine e_iload_n X hl 0 rfl dX5_room_11 rfl ?_
    obtain ⟨v4, h, hE⟩ := ob_some hE
    refine r_callV1 X hM 40 rfl ck_X5 (rest := []) (met_X5_most l G ad hp0 M0 v1 h) (cwV 1 X.ht (lw_V q3242 q3244 qs84 q170 q3245) rfl rfl rfl hd_X5_most (cxR (by decide) (by decide))) rfl hl.1 rfl (Nat.le_of_ble_eq_true rfl) dX5_room_12 ⟨Nat.le_refl _, Nat.le_refl _⟩ (fun H locs hM => ?_)
    refine e_aload_n X hl 1 rfl dX5_room_15 rfl ?_
    refine r_getR X hM ck_X5 40 14 rfl rfl (by decide) q3048 rfl dX5_room_16 ?_
    refine e_iload_n X hl 0 rfl dX5_room_19 rfl ?_
    refine r_iald X hM 14 rfl (Nat.le_of_ble_eq_true rfl) hE dX5_room_20 (fun v5 hE => ?_)
    refine e_isub X dX5_room_21 ?_
    refine e_goto X dX5_room_22 rfl ?_
    cases hE
    exact r_zret X hM rfl dX5_room_37
theorem met_X5_room (l : Launch) (G : GG) (ad : Nat → Nat) (hp0 : HP) (M0 : RM) (a1 : Int)  {out : Int} (hE : f_X5_room M0 a1 = some out) : MR l yX5_room (ws_ yX5_room cX5_room 3 (some .int)) 1 G dX5 ad hp0 [.ref (ad 40), vI a1] M0 (some (vI out)) M0 :=
  MR.of (by decide) (Nat.le_of_ble_eq_true rfl) rfl (fun p e s m below meth c ls X hM hl => wb_X5_room X hE hM hl)
def f_X5_costOf (M0 : RM) (a1 : Int) : Option Int :=
  if ¬ w32 (iRem a1 2) = 0 then (ob (gA 25 M0 1 (iDiv a1 2)) fun v1 => some (-v1)) else (ob (gA 25 M0 1 (iDiv a1 2)) fun v2 => some v2)
theorem hd_X5_costOf : yX5_costOf.cls = RX5 ∧ yX5_costOf.cls ≠ "java/lang/invoke/MethodHandle" ∧ yX5_costOf.cls ≠ "java/lang/invoke/VarHandle" ∧ (parseMethodDescriptor yX5_costOf.desc).map (fun d => d.parameters.length) = some 1 := by decide +kernel
theorem wb_X5_costOf {p : Program} {l : Launch} {e : Env} {s : State} {m : MethodId} {args : Array Value} {below : List Frame} {meth : Method} {c : Code} {G : GG} {ad : Nat → Nat} {hp0 : HP} {M0 : RM} (X : CX p s m args meth c cX5_costOf 2 RX5 (some .long) G) {a1 : Int}   {out : Int} (hE : f_X5_costOf M0 a1 = some out) {H : Heap} {locs : List Loc} {ls : Array Slot} (hM : RW G dX5 ad hp0 M0 H locs) (hl : lv_has ls 2 [(0, .ref (ad 40)), (1, vI a1)]) : W p l e (rmD 0) s m args below meth c H locs 0 0 (QR below G dX5 ad hp0 args s (some (vL out)) M0) (F0 m 0 ls []) := by
  unfold f_X5_costOf at hE
  refine e_iload_n X hl 1 rfl dX5_costOf_0 rfl ?_
  refine e_iconst X dX5_costOf_1 ?_
  refine e_irem X (by decide) dX5_costOf_2 ?_
  refine e_if_ne X (w32 (iRem a1 2)) rfl hE dX5_costOf_3 rfl (fun hE => ?_) (fun hE => ?_)
  · refine e_aload_n X hl 0 rfl dX5_costOf_17 rfl ?_
    refine r_getR X hM ck_X5 40 1 rfl rfl (by decide) q3035 rfl dX5_costOf_18 ?_
    refine e_iload_n X hl 1 rfl dX5_costOf_21 rfl ?_
    refine e_iconst X dX5_costOf_22 ?_
    refine e_idiv X (by decide) dX5_costOf_23 ?_
    refine r_lald X hM 1 rfl (Nat.le_of_ble_eq_true rfl) hE dX5_costOf_24 (fun v1 hE => ?_)
    refine e_lneg X dX5_costOf_25 ?_
    cases hE
    exact r_lret X hM dX5_costOf_26
  · refine e_aload_n X hl 0 rfl dX5_costOf_6 rfl ?_
    refine r_getR X hM ck_X5 40 1 rfl rfl (by decide) q3035 rfl dX5_costOf_7 ?_
    refine e_iload_n X hl 1 rfl dX5_costOf_10 rfl ?_
    refine e_iconst X dX5_costOf_11 ?_
    refine e_idiv X (by decide) dX5_costOf_12 ?_
    refine r_lald X hM 1 rfl (Nat.le_of_ble_eq_true rfl) hE dX5_costOf_13 (fun v2 hE => ?_)
    refine e_goto X dX5_costOf_14 rfl ?_
    cases hE
    exact r_lret X hM dX5_costOf_26
theorem met_X5_costOf (l : Launch) (G : GG) (ad : Nat → Nat) (hp0 : HP) (M0 : RM) (a1 : Int)  {out : Int} (hE : f_X5_costOf M0 a1 = some out) : MR l yX5_costOf (ws_ yX5_costOf cX5_costOf 2 (some .long)) 0 G dX5 ad hp0 [.ref (ad 40), vI a1] M0 (some (vL out)) M0 :=
  MR.of (by decide) (Nat.le_of_ble_eq_true rfl) rfl (fun p e s m below meth c ls X hM hl => wb_X5_costOf X hE hM hl)
def f_X5_reaches_L2 (N : Nat) (b1 : Int) (k : RM → Int → Option RM) : Nat → RM → Int → Option RM
  | 0, _, _ => none
  | n + 1, M, x2 =>
    if 8 ≤ w32 x2 then (k M x2) else (ob (sA 8 M 16 x2 9223372036854775807) fun M1 => jn (x2 + 1) fun v2 => f_X5_reaches_L2 N b1 k n M1 v2)
def f_X5_reaches_L47 (N : Nat)  (k : RM → Int → Int → Option RM) : Nat → RM → Int → Int → Option RM
  | 0, _, _, _ => none
  | n + 1, M, x2, x3 =>
    ob (f_X5_many M) fun v7 => if w32 (2 * v7) ≤ w32 x3 then (k M x2 x3) else (ob (f_X5_leads M x3 1) fun v8 => ob (f_X5_leads M x3 0) fun v9 => ob (f_X5_room M x3) fun v10 => jn (fun (v12 : Int) (M13 : RM) => jn (x3 + 1) fun v14 => f_X5_reaches_L47 N  k n M13 v12 v14) fun kj11 => if w32 v10 = 0 then (kj11 x2 M) else (ob (gA 8 M 16 v8) fun v15 => if w64 v15 = 9223372036854775807 then (kj11 x2 M) else (ob (gA 8 M 16 v9) fun v16 => ob (gA 8 M 16 v8) fun v17 => ob (f_X5_costOf M x3) fun v18 => if w64 (v17 + v18) < w64 v16 then (ob (gA 8 M 16 v8) fun v19 => ob (f_X5_costOf M x3) fun v20 => ob (sA 8 M 16 v9 (v19 + v20)) fun M21 => ob (sA 8 M21 17 v9 x3) fun M22 => kj11 1 M22) else (kj11 x2 M))))
def f_X5_reaches_L39 (N : Nat)  (k : RM → Int → Option RM) : Nat → RM → Int → Option RM
  | 0, _, _ => none
  | n + 1, M, x2 =>
    if w32 x2 = 0 then (k M x2) else (f_X5_reaches_L47 N  (fun (M23 : RM) (v24 : Int) (v25 : Int) => f_X5_reaches_L39 N  k n M23 v24) N M 0 0)
def f_X5_reaches (N : Nat) (M : RM) (a1 : Int) : Option RM :=
  f_X5_reaches_L2 N a1 (fun (M3 : RM) (v4 : Int) => ob (sA 8 M3 16 a1 0) fun M5 => ob (sA 8 M5 17 a1 (-1)) fun M6 => f_X5_reaches_L39 N  (fun (M26 : RM) (v27 : Int) => some M26) N M6 1) N M 0
theorem hd_X5_reaches : yX5_reaches.cls = RX5 ∧ yX5_reaches.cls ≠ "java/lang/invoke/MethodHandle" ∧ yX5_reaches.cls ≠ "java/lang/invoke/VarHandle" ∧ (parseMethodDescriptor yX5_reaches.desc).map (fun d => d.parameters.length) = some 1 := by decide +kernel
theorem wl_X5_reaches_2 {p : Program} {l : Launch} {e : Env} {s : State} {m : MethodId} {args : Array Value} {below : List Frame} {meth : Method} {c : Code} {G : GG} {ad : Nat → Nat} {hp0 : HP} (X : CX p s m args meth c cX5_reaches 6 RX5 none G) {N : Nat} {b1 : Int}  {k : RM → Int → Option RM} {out : RM} : ∀ (n : Nat) (M : RM) (x2 : Int) (H : Heap) (locs : List Loc) (ls : Array Slot) (hE : f_X5_reaches_L2 N b1 k n M x2 = some out) (hM : RW G dX5 ad hp0 M H locs) (hl : lv_has ls 6 [(0, .ref (ad 40)), (1, vI b1), (2, vI x2)]) (hk : ∀ (M : RM) (x2 : Int) (H : Heap) (locs : List Loc) (ls : Array Slot), RW G dX5 ad hp0 M H locs → lv_has ls 6 [(0, .ref (ad 40)), (1, vI b1), (2, vI x2)] → k M x2 = some out → W p l e (rmD 2) s m args below meth c H locs 0 0 (QR below G dX5 ad hp0 args s none out) (F0 m 23 ls [])), W p l e (rmD 2) s m args below meth c H locs 0 0 (QR below G dX5 ad hp0 args s none out) (F0 m 2 ls []) := by
  intro n
  induction n with
  | zero =>
    intro M x2 H locs ls hE hM hl hk
    unfold f_X5_reaches_L2 at hE
    cases hE
  | succ n ih =>
    intro M x2 H locs ls hE hM hl hk
    unfold f_X5_reaches_L2 at hE
    refine e_iload_n X hl 2 rfl dX5_reaches_2 rfl ?_
    refine e_bipush X dX5_reaches_3 (by decide) ?_
    refine e_icmp_ge X (w32 x2) 8 rfl (by decide) hE dX5_reaches_5 rfl (fun hE => ?_) (fun hE => ?_)
    · exact hk M x2 _ _ _ hM (lv_sub hl [0, 1, 2] rfl) hE
    · refine e_aload_n X hl 0 rfl dX5_reaches_8 rfl ?_
      refine r_getR X hM ck_X5 40 16 rfl rfl (by decide) q3050 rfl dX5_reaches_9 ?_
      refine e_iload_n X hl 2 rfl dX5_reaches_12 rfl ?_
      refine e_ldc2 X 9223372036854775807 q3330 (by decide) dX5_reaches_13 ?_
      refine r_last X hM 16 rfl (Nat.le_of_ble_eq_true rfl) hE dX5_reaches_16 (fun M1 hE H locs hM => ?_)
      refine e_iinc X hl 2 hE (fun v2 => [(2, vI v2), (0, .ref (ad 40)), (1, vI b1)]) rfl dX5_reaches_17 (by decide) (fun _ => rfl) (fun v2 hE ls hl => ?_)
      refine e_goto X dX5_reaches_20 rfl ?_
      exact ih M1 v2 _ _ _ hE hM (lv_sub hl [1, 2, 0] rfl) hk
theorem wl_X5_reaches_47 {p : Program} {l : Launch} {e : Env} {s : State} {m : MethodId} {args : Array Value} {below : List Frame} {meth : Method} {c : Code} {G : GG} {ad : Nat → Nat} {hp0 : HP} (X : CX p s m args meth c cX5_reaches 6 RX5 none G) {N : Nat}   {k : RM → Int → Int → Option RM} {out : RM} : ∀ (n : Nat) (M : RM) (x2 : Int) (x3 : Int) (H : Heap) (locs : List Loc) (ls : Array Slot) (hE : f_X5_reaches_L47 N  k n M x2 x3 = some out) (hM : RW G dX5 ad hp0 M H locs) (hl : lv_has ls 6 [(0, .ref (ad 40)), (2, vI x2), (3, vI x3)]) (hk : ∀ (M : RM) (x2 : Int) (x3 : Int) (H : Heap) (locs : List Loc) (ls : Array Slot), RW G dX5 ad hp0 M H locs → lv_has ls 6 [(0, .ref (ad 40)), (2, vI x2), (3, vI x3)] → k M x2 x3 = some out → W p l e (rmD 2) s m args below meth c H locs 0 0 (QR below G dX5 ad hp0 args s none out) (F0 m 158 ls [])), W p l e (rmD 2) s m args below meth c H locs 0 0 (QR below G dX5 ad hp0 args s none out) (F0 m 47 ls []) := by
  intro n
  induction n with
  | zero =>
    intro M x2 x3 H locs ls hE hM hl hk
    unfold f_X5_reaches_L47 at hE
    cases hE
  | succ n ih =>
    intro M x2 x3 H locs ls hE hM hl hk
    unfold f_X5_reaches_L47 at hE
    refine e_iload_n X hl 2 rfl dX5_reaches_47 rfl ?_
    refine e_iconst X dX5_reaches_48 ?_
    refine e_aload_n X hl 0 rfl dX5_reaches_49 rfl ?_
    obtain ⟨v7, h, hE⟩ := ob_some hE
    refine r_callV1 X hM 40 rfl ck_X5 (rest := [vI 2, vI x3]) (met_X5_many l G ad hp0 M h) (cwV 0 X.ht (lw_V q3206 q3208 qs77 q170 q3209) rfl rfl rfl hd_X5_many (cxR (by decide) (by decide))) rfl hl.1 rfl (Nat.le_of_ble_eq_true rfl) dX5_reaches_50 ⟨Nat.le_refl _, Nat.le_refl _⟩ (fun H locs hM => ?_)
    refine e_imul X dX5_reaches_53 ?_
    refine e_icmp_ge X (w32 x3) (w32 (2 * v7)) rfl rfl hE dX5_reaches_54 rfl (fun hE => ?_) (fun hE => ?_)
    · exact hk M x2 x3 _ _ _ hM (lv_sub hl [0, 1, 2] rfl) hE
    · refine e_aload_n X hl 0 rfl dX5_reaches_57 rfl ?_
      refine e_iload_n X hl 2 rfl dX5_reaches_58 rfl ?_
      refine e_iconst X dX5_reaches_59 ?_
      obtain ⟨v8, h, hE⟩ := ob_some hE
      refine r_callV1 X hM 40 rfl ck_X5 (rest := []) (met_X5_leads l G ad hp0 M x3 1 h) (cwV 2 X.ht (lw_V q3331 q3333 qs99 q170 q3334) rfl rfl rfl hd_X5_leads (cxR (by decide) (by decide))) rfl hl.1 rfl (Nat.le_of_ble_eq_true rfl) dX5_reaches_60 ⟨Nat.le_refl _, Nat.le_refl _⟩ (fun H locs hM => ?_)
      refine e_istore X hl [(4, vI v8), (0, .ref (ad 40)), (2, vI x2), (3, vI x3)] dX5_reaches_63 (by decide) rfl (fun ls hl => ?_)
      refine e_aload_n X hl 1 rfl dX5_reaches_65 rfl ?_
      refine e_iload_n X hl 3 rfl dX5_reaches_66 rfl ?_
      refine e_iconst X dX5_reaches_67 ?_
      obtain ⟨v9, h, hE⟩ := ob_some hE
      refine r_callV1 X hM 40 rfl ck_X5 (rest := []) (met_X5_leads l G ad hp0 M x3 0 h) (cwV 2 X.ht (lw_V q3331 q3333 qs99 q170 q3334) rfl rfl rfl hd_X5_leads (cxR (by decide) (by decide))) rfl hl.1 rfl (Nat.le_of_ble_eq_true rfl) dX5_reaches_68 ⟨Nat.le_refl _, Nat.le_refl _⟩ (fun H locs hM => ?_)
      refine e_istore X hl [(5, vI v9), (4, vI v8), (0, .ref (ad 40)), (2, vI x2), (3, vI x3)] dX5_reaches_71 (by decide) rfl (fun ls hl => ?_)
      refine e_aload_n X hl 2 rfl dX5_reaches_73 rfl ?_
      refine e_iload_n X hl 4 rfl dX5_reaches_74 rfl ?_
      obtain ⟨v10, h, hE⟩ := ob_some hE
      refine r_callV1 X hM 40 rfl ck_X5 (rest := []) (met_X5_room l G ad hp0 M x3 h) (cwV 1 X.ht (lw_V q3335 q3337 qs100 q170 q3338) rfl rfl rfl hd_X5_room (cxR (by decide) (by decide))) rfl hl.1 rfl (Nat.le_of_ble_eq_true rfl) dX5_reaches_75 ⟨Nat.le_refl _, Nat.le_refl _⟩ (fun H locs hM => ?_)
      obtain ⟨kj11, hkj11, hE⟩ := jn_ex hE
      have hjkj11 : ∀ (v12 : Int) (M13 : RM) (H : Heap) (locs : List Loc) (ls : Array Slot), RW G dX5 ad hp0 M13 H locs → lv_has ls 6 [(0, .ref (ad 40)), (2, vI v12), (3, vI x3)] → kj11 v12 M13 = some out → W p l e (rmD 2) s m args below meth c H locs 0 0 (QR below G dX5 ad hp0 args s none out) (F0 m 152 ls []) := by
        intro v12 M13 H locs ls hM hl hE
        subst hkj11
        refine e_iinc X hl 2 hE (fun v14 => [(3, vI v14), (0, .ref (ad 40)), (2, vI v12)]) rfl dX5_reaches_152 (by decide) (fun _ => rfl) (fun v14 hE ls hl => ?_)
        refine e_goto X dX5_reaches_155 rfl ?_
        exact ih M13 v12 v14 _ _ _ hE hM (lv_sub hl [1, 2, 0] rfl) hk
      refine e_if_eq X (w32 v10) rfl hE dX5_reaches_78 rfl (fun hE => ?_) (fun hE => ?_)
      · exact hjkj11 x2 M _ _ _ hM (lv_sub hl [2, 3, 4] rfl) hE
      · refine e_aload_n X hl 2 rfl dX5_reaches_81 rfl ?_
        refine r_getR X hM ck_X5 40 16 rfl rfl (by decide) q3050 rfl dX5_reaches_82 ?_
        refine e_iload X hl 1 rfl dX5_reaches_85 ?_
        refine r_lald X hM 16 rfl (Nat.le_of_ble_eq_true rfl) hE dX5_reaches_87 (fun v15 hE => ?_)
        refine e_ldc2 X 9223372036854775807 q3330 (by decide) dX5_reaches_88 ?_
        refine e_lcmp_eq X (w64 v15) 9223372036854775807 rfl (by decide) hE dX5_reaches_91 dX5_reaches_92 rfl (fun hE => ?_) (fun hE => ?_)
        · exact hjkj11 x2 M _ _ _ hM (lv_sub hl [2, 3, 4] rfl) hE
        · refine e_aload_n X hl 2 rfl dX5_reaches_95 rfl ?_
          refine r_getR X hM ck_X5 40 16 rfl rfl (by decide) q3050 rfl dX5_reaches_96 ?_
          refine e_iload X hl 0 rfl dX5_reaches_99 ?_
          refine r_lald X hM 16 rfl (Nat.le_of_ble_eq_true rfl) hE dX5_reaches_101 (fun v16 hE => ?_)
          refine e_aload_n X hl 2 rfl dX5_reaches_102 rfl ?_
          refine r_getR X hM ck_X5 40 16 rfl rfl (by decide) q3050 rfl dX5_reaches_103 ?_
          refine e_iload X hl 1 rfl dX5_reaches_106 ?_
          refine r_lald X hM 16 rfl (Nat.le_of_ble_eq_true rfl) hE dX5_reaches_108 (fun v17 hE => ?_)
          refine e_aload_n X hl 2 rfl dX5_reaches_109 rfl ?_
          refine e_iload_n X hl 4 rfl dX5_reaches_110 rfl ?_
          obtain ⟨v18, h, hE⟩ := ob_some hE
          refine r_callV1 X hM 40 rfl ck_X5 (rest := [vL v17, vL v16]) (met_X5_costOf l G ad hp0 M x3 h) (cwV 1 X.ht (lw_V q3339 q3341 qs101 q170 q3342) rfl rfl rfl hd_X5_costOf (cxR (by decide) (by decide))) rfl hl.1 rfl (Nat.le_of_ble_eq_true rfl) dX5_reaches_111 ⟨Nat.le_refl _, Nat.le_refl _⟩ (fun H locs hM => ?_)
          refine e_ladd X dX5_reaches_114 ?_
          refine e_lcmp_gt X (w64 v16) (w64 (v17 + v18)) rfl rfl hE dX5_reaches_115 dX5_reaches_116 rfl (fun hE => ?_) (fun hE => ?_)
          · refine e_aload_n X hl 2 rfl dX5_reaches_122 rfl ?_
            refine r_getR X hM ck_X5 40 16 rfl rfl (by decide) q3050 rfl dX5_reaches_123 ?_
            refine e_iload X hl 0 rfl dX5_reaches_126 ?_
            refine e_aload_n X hl 2 rfl dX5_reaches_128 rfl ?_
            refine r_getR X hM ck_X5 40 16 rfl rfl (by decide) q3050 rfl dX5_reaches_129 ?_
            refine e_iload X hl 1 rfl dX5_reaches_132 ?_
            refine r_lald X hM 16 rfl (Nat.le_of_ble_eq_true rfl) hE dX5_reaches_134 (fun v19 hE => ?_)
            refine e_aload_n X hl 2 rfl dX5_reaches_135 rfl ?_
            refine e_iload_n X hl 4 rfl dX5_reaches_136 rfl ?_
            obtain ⟨v20, h, hE⟩ := ob_some hE
            refine r_callV1 X hM 40 rfl ck_X5 (rest := [vL v19, vI v9, .ref (ad 16)]) (met_X5_costOf l G ad hp0 M x3 h) (cwV 1 X.ht (lw_V q3339 q3341 qs101 q170 q3342) rfl rfl rfl hd_X5_costOf (cxR (by decide) (by decide))) rfl hl.1 rfl (Nat.le_of_ble_eq_true rfl) dX5_reaches_137 ⟨Nat.le_refl _, Nat.le_refl _⟩ (fun H locs hM => ?_)
            refine e_ladd X dX5_reaches_140 ?_
            refine r_last X hM 16 rfl (Nat.le_of_ble_eq_true rfl) hE dX5_reaches_141 (fun M21 hE H locs hM => ?_)
            refine e_aload_n X hl 2 rfl dX5_reaches_142 rfl ?_
            refine r_getR X hM ck_X5 40 17 rfl rfl (by decide) q3051 rfl dX5_reaches_143 ?_
            refine e_iload X hl 0 rfl dX5_reaches_146 ?_
            refine e_iload_n X hl 4 rfl dX5_reaches_148 rfl ?_
            refine r_iast X hM 17 rfl (Nat.le_of_ble_eq_true rfl) hE dX5_reaches_149 (fun M22 hE H locs hM => ?_)
            refine e_iconst X dX5_reaches_150 ?_
            refine e_istore_n X hl [(2, vI 1), (5, vI v9), (4, vI v8), (0, .ref (ad 40)), (3, vI x3)] dX5_reaches_151 rfl (by decide) rfl (fun ls hl => ?_)
            exact hjkj11 1 M22 _ _ _ hM (lv_sub hl [3, 0, 4] rfl) hE
          · refine e_goto X dX5_reaches_119 rfl ?_
            exact hjkj11 x2 M _ _ _ hM (lv_sub hl [2, 3, 4] rfl) hE
theorem wl_X5_reaches_39 {p : Program} {l : Launch} {e : Env} {s : State} {m : MethodId} {args : Array Value} {below : List Frame} {meth : Method} {c : Code} {G : GG} {ad : Nat → Nat} {hp0 : HP} (X : CX p s m args meth c cX5_reaches 6 RX5 none G) {N : Nat}   {k : RM → Int → Option RM} {out : RM} : ∀ (n : Nat) (M : RM) (x2 : Int) (H : Heap) (locs : List Loc) (ls : Array Slot) (hE : f_X5_reaches_L39 N  k n M x2 = some out) (hM : RW G dX5 ad hp0 M H locs) (hl : lv_has ls 6 [(0, .ref (ad 40)), (2, vI x2)]) (hk : ∀ (M : RM) (x2 : Int) (H : Heap) (locs : List Loc) (ls : Array Slot), RW G dX5 ad hp0 M H locs → lv_has ls 6 [(0, .ref (ad 40)), (2, vI x2)] → k M x2 = some out → W p l e (rmD 2) s m args below meth c H locs 0 0 (QR below G dX5 ad hp0 args s none out) (F0 m 161 ls [])), W p l e (rmD 2) s m args below meth c H locs 0 0 (QR below G dX5 ad hp0 args s none out) (F0 m 39 ls []) := by
  intro n
  induction n with
  | zero =>
    intro M x2 H locs ls hE hM hl hk
    unfold f_X5_reaches_L39 at hE
    cases hE
  | succ n ih =>
    intro M x2 H locs ls hE hM hl hk
    unfold f_X5_reaches_L39 at hE
    refine e_iload_n X hl 1 rfl dX5_reaches_39 rfl ?_
    refine e_if_eq X (w32 x2) rfl hE dX5_reaches_40 rfl (fun hE => ?_) (fun hE => ?_)
    · exact hk M x2 _ _ _ hM (lv_sub hl [0, 1] rfl) hE
    · refine e_iconst X dX5_reaches_43 ?_
      refine e_istore_n X hl [(2, vI 0), (0, .ref (ad 40))] dX5_reaches_44 rfl (by decide) rfl (fun ls hl => ?_)
      refine e_iconst X dX5_reaches_45 ?_
      refine e_istore_n X hl [(3, vI 0), (2, vI 0), (0, .ref (ad 40))] dX5_reaches_46 rfl (by decide) rfl (fun ls hl => ?_)
      refine wl_X5_reaches_47 X _ M 0 0 _ _ _ hE hM (lv_sub hl [2, 1, 0] rfl) (fun M23 v24 v25 H locs ls hM hl hE => ?_)
      refine e_goto X dX5_reaches_158 rfl ?_
      exact ih M23 v24 _ _ _ hE hM (lv_sub hl [0, 1] rfl) hk
theorem wb_X5_reaches {p : Program} {l : Launch} {e : Env} {s : State} {m : MethodId} {args : Array Value} {below : List Frame} {meth : Method} {c : Code} {G : GG} {ad : Nat → Nat} {hp0 : HP} (X : CX p s m args meth c cX5_reaches 6 RX5 none G) {N : Nat} {M : RM} {a1 : Int}   {out : RM} (hE : f_X5_reaches N M a1 = some out) {H : Heap} {locs : List Loc} {ls : Array Slot} (hM : RW G dX5 ad hp0 M H locs) (hl : lv_has ls 6 [(0, .ref (ad 40)), (1, vI a1)]) : W p l e (rmD 2) s m args below meth c H locs 0 0 (QR below G dX5 ad hp0 args s none out) (F0 m 0 ls []) := by
  unfold f_X5_reaches at hE
  refine e_iconst X dX5_reaches_0 ?_
  refine e_istore_n X hl [(2, vI 0), (0, .ref (ad 40)), (1, vI a1)] dX5_reaches_1 rfl (by decide) rfl (fun ls hl => ?_)
  refine wl_X5_reaches_2 X _ M 0 _ _ _ hE hM (lv_sub hl [1, 2, 0] rfl) (fun M3 v4 H locs ls hM hl hE => ?_)
  refine e_aload_n X hl 0 rfl dX5_reaches_23 rfl ?_
  refine r_getR X hM ck_X5 40 16 rfl rfl (by decide) q3050 rfl dX5_reaches_24 ?_
  refine e_iload_n X hl 1 rfl dX5_reaches_27 rfl ?_
  refine e_lconst X 0 dX5_reaches_28 (by decide) ?_
  refine r_last X hM 16 rfl (Nat.le_of_ble_eq_true rfl) hE dX5_reaches_29 (fun M5 hE H locs hM => ?_)
  refine e_aload_n X hl 0 rfl dX5_reaches_30 rfl ?_
  refine r_getR X hM ck_X5 40 17 rfl rfl (by decide) q3051 rfl dX5_reaches_31 ?_
  refine e_iload_n X hl 1 rfl dX5_reaches_34 rfl ?_
  refine e_iconst X dX5_reaches_35 ?_
  refine r_iast X hM 17 rfl (Nat.le_of_ble_eq_true rfl) hE dX5_reaches_36 (fun M6 hE H locs hM => ?_)
  refine e_iconst X dX5_reaches_37 ?_
  refine e_istore_n X hl [(2, vI 1), (0, .ref (ad 40)), (1, vI a1)] dX5_reaches_38 rfl (by decide) rfl (fun ls hl => ?_)
  refine wl_X5_reaches_39 X _ M6 1 _ _ _ hE hM (lv_sub hl [1, 0] rfl) (fun M26 v27 H locs ls hM hl hE => ?_)
  cases hE
  exact r_vret X hM dX5_reaches_161
theorem met_X5_reaches (l : Launch) (G : GG) (ad : Nat → Nat) (hp0 : HP) {N : Nat} (M : RM) (a1 : Int)  {out : RM} (hE : f_X5_reaches N M a1 = some out) : MR l yX5_reaches (ws_ yX5_reaches cX5_reaches 6 none) 2 G dX5 ad hp0 [.ref (ad 40), vI a1] M none out :=
  MR.of (by decide) (Nat.le_of_ble_eq_true rfl) rfl (fun p e s m below meth c ls X hM hl => wb_X5_reaches X hE hM hl)
def f_X5_goes (M : RM) (a1 : Int) (a2 : Int) : Option RM :=
  ob (gA 25 M 14 (iDiv a1 2)) fun v1 => if ¬ w32 (iRem a1 2) = 0 then (ob (sA 25 M 14 (iDiv a1 2) (v1 + (-a2))) fun M2 => some M2) else (ob (sA 25 M 14 (iDiv a1 2) (v1 + a2)) fun M3 => some M3)
theorem hd_X5_goes : yX5_goes.cls = RX5 ∧ yX5_goes.cls ≠ "java/lang/invoke/MethodHandle" ∧ yX5_goes.cls ≠ "java/lang/invoke/VarHandle" ∧ (parseMethodDescriptor yX5_goes.desc).map (fun d => d.parameters.length) = some 2 := by decide +kernel
theorem wb_X5_goes {p : Program} {l : Launch} {e : Env} {s : State} {m : MethodId} {args : Array Value} {below : List Frame} {meth : Method} {c : Code} {G : GG} {ad : Nat → Nat} {hp0 : HP} (X : CX p s m args meth c cX5_goes 3 RX5 none G) {M : RM} {a1 : Int} {a2 : Int}   {out : RM} (hE : f_X5_goes M a1 a2 = some out) {H : Heap} {locs : List Loc} {ls : Array Slot} (hM : RW G dX5 ad hp0 M H locs) (hl : lv_has ls 3 [(0, .ref (ad 40)), (1, vI a1), (2, vI a2)]) : W p l e (rmD 0) s m args below meth c H locs 0 0 (QR below G dX5 ad hp0 args s none out) (F0 m 0 ls []) := by
  unfold f_X5_goes at hE
  refine e_aload_n X hl 0 rfl dX5_goes_0 rfl ?_
  refine r_getR X hM ck_X5 40 14 rfl rfl (by decide) q3048 rfl dX5_goes_1 ?_
  refine e_iload_n X hl 1 rfl dX5_goes_4 rfl ?_
  refine e_iconst X dX5_goes_5 ?_
  refine e_idiv X (by decide) dX5_goes_6 ?_
  refine e_dup2 X dX5_goes_7 rfl rfl ?_
  refine r_iald X hM 14 rfl (Nat.le_of_ble_eq_true rfl) hE dX5_goes_8 (fun v1 hE => ?_)
  refine e_iload_n X hl 1 rfl dX5_goes_9 rfl ?_
  refine e_iconst X dX5_goes_10 ?_
  refine e_irem X (by decide) dX5_goes_11 ?_
  refine e_if_ne X (w32 (iRem a1 2)) rfl hE dX5_goes_12 rfl (fun hE => ?_) (fun hE => ?_)
  · refine e_iload_n X hl 2 rfl dX5_goes_19 rfl ?_
    refine e_ineg X dX5_goes_20 ?_
    refine e_iadd X dX5_goes_21 ?_
    refine r_iast X hM 14 rfl (Nat.le_of_ble_eq_true rfl) hE dX5_goes_22 (fun M2 hE H locs hM => ?_)
    cases hE
    exact r_vret X hM dX5_goes_23
  · refine e_iload_n X hl 2 rfl dX5_goes_15 rfl ?_
    refine e_goto X dX5_goes_16 rfl ?_
    refine e_iadd X dX5_goes_21 ?_
    refine r_iast X hM 14 rfl (Nat.le_of_ble_eq_true rfl) hE dX5_goes_22 (fun M3 hE H locs hM => ?_)
    cases hE
    exact r_vret X hM dX5_goes_23
theorem met_X5_goes (l : Launch) (G : GG) (ad : Nat → Nat) (hp0 : HP) (M : RM) (a1 : Int) (a2 : Int)  {out : RM} (hE : f_X5_goes M a1 a2 = some out) : MR l yX5_goes (ws_ yX5_goes cX5_goes 3 none) 0 G dX5 ad hp0 [.ref (ad 40), vI a1, vI a2] M none out :=
  MR.of (by decide) (Nat.le_of_ble_eq_true rfl) rfl (fun p e s m below meth c ls X hM hl => wb_X5_goes X hE hM hl)
def f_X5_sends_L9 (N : Nat) (M : RM) (b1 : Int) (k : Int → Int → Option (Int × RM)) : Nat → Int → Int → Option (Int × RM)
  | 0, _, _ => none
  | n + 1, x2, x3 =>
    ob (f_X5_towns_2 M) fun v2 => if w32 v2 ≤ w32 x3 then (k x2 x3) else (ob (gA 8 M 15 x3) fun v3 => jn (fun (v5 : Int) => jn (x3 + 1) fun v6 => f_X5_sends_L9 N M b1 k n v5 v6) fun kj4 => if 0 ≤ w32 v3 then (kj4 x2) else (ob (gA 8 M 16 x3) fun v7 => if w64 v7 = 9223372036854775807 then (kj4 x2) else (if w32 x2 < 0 then (kj4 x3) else (ob (gA 8 M 16 x3) fun v8 => ob (gA 8 M 16 x2) fun v9 => if w64 v9 ≤ w64 v8 then (kj4 x2) else (kj4 x3)))))
def f_X5_sends_L109 (N : Nat) (M : RM) (b1 : Int) (b2 : Int) (k : Int → Int → Option (Int × RM)) : Nat → Int → Int → Option (Int × RM)
  | 0, _, _ => none
  | n + 1, x3, x4 =>
    if w32 x4 = w32 b1 then (k x3 x4) else (ob (gA 8 M 17 x4) fun v16 => ob (f_X5_room M v16) fun v17 => jn (fun (v19 : Int) => ob (gA 8 M 17 x4) fun v20 => ob (f_X5_leads M v20 1) fun v21 => f_X5_sends_L109 N M b1 b2 k n v19 v21) fun kj18 => if w32 x3 ≤ w32 v17 then (kj18 x3) else (ob (gA 8 M 17 x4) fun v22 => ob (f_X5_room M v22) fun v23 => kj18 v23))
def f_X5_sends_L166 (N : Nat) (b1 : Int) (b2 : Int) (b3 : Int) (k : RM → Int → Option (Int × RM)) : Nat → RM → Int → Option (Int × RM)
  | 0, _, _ => none
  | n + 1, M, x4 =>
    if w32 x4 = w32 b1 then (k M x4) else (ob (gA 8 M 17 x4) fun v26 => ob (f_X5_goes M v26 b3) fun M27 => ob (gA 8 M27 17 x4) fun v28 => ob (f_X5_leads M27 v28 1) fun v29 => f_X5_sends_L166 N b1 b2 b3 k n M27 v29)
def f_X5_sends (N : Nat) (M : RM) (a1 : Int) : Option (Int × RM) :=
  ob (f_X5_reaches N M a1) fun M1 => f_X5_sends_L9 N M1 a1 (fun (v10 : Int) (v11 : Int) => if 0 ≤ w32 v10 then (ob (gA 8 M1 15 a1) fun v12 => ob (gA 8 M1 15 v10) fun v13 => jn (fun (v15 : Int) => f_X5_sends_L109 N M1 a1 v10 (fun (v24 : Int) (v25 : Int) => f_X5_sends_L166 N a1 v10 v24 (fun (M30 : RM) (v31 : Int) => ob (gA 8 M30 15 a1) fun v32 => ob (sA 8 M30 15 a1 (v32 - v24)) fun M33 => ob (gA 8 M33 15 v10) fun v34 => ob (sA 8 M33 15 v10 (v34 + v24)) fun M35 => some (1, M35)) N M1 v10) N v15 v10) fun kj14 => if w32 (-v13) ≤ w32 v12 then (ob (gA 8 M1 15 v10) fun v36 => kj14 (-v36)) else (ob (gA 8 M1 15 a1) fun v37 => kj14 v37)) else (some (0, M1))) N (-1) 0
theorem hd_X5_sends : yX5_sends.cls = RX5 ∧ yX5_sends.cls ≠ "java/lang/invoke/MethodHandle" ∧ yX5_sends.cls ≠ "java/lang/invoke/VarHandle" ∧ (parseMethodDescriptor yX5_sends.desc).map (fun d => d.parameters.length) = some 1 := by decide +kernel
theorem wl_X5_sends_9 {p : Program} {l : Launch} {e : Env} {s : State} {m : MethodId} {args : Array Value} {below : List Frame} {meth : Method} {c : Code} {G : GG} {ad : Nat → Nat} {hp0 : HP} (X : CX p s m args meth c cX5_sends 5 RX5 (some .boolean) G) {N : Nat} {M : RM} {b1 : Int}  {k : Int → Int → Option (Int × RM)} {out : (Int × RM)} : ∀ (n : Nat) (x2 : Int) (x3 : Int) (H : Heap) (locs : List Loc) (ls : Array Slot) (hE : f_X5_sends_L9 N M b1 k n x2 x3 = some out) (hM : RW G dX5 ad hp0 M H locs) (hl : lv_has ls 5 [(0, .ref (ad 40)), (1, vI b1), (2, vI x2), (3, vI x3)]) (hk : ∀ (x2 : Int) (x3 : Int) (H : Heap) (locs : List Loc) (ls : Array Slot), RW G dX5 ad hp0 M H locs → lv_has ls 5 [(0, .ref (ad 40)), (1, vI b1), (2, vI x2), (3, vI x3)] → k x2 x3 = some out → W p l e (rmD 3) s m args below meth c H locs 0 0 (QR below G dX5 ad hp0 args s (some (vI out.1)) out.2) (F0 m 67 ls [])), W p l e (rmD 3) s m args below meth c H locs 0 0 (QR below G dX5 ad hp0 args s (some (vI out.1)) out.2) (F0 m 9 ls []) := by
  intro n
  induction n with
  | zero =>
    intro x2 x3 H locs ls hE hM hl hk
    unfold f_X5_sends_L9 at hE
    cases hE
  | succ n ih =>
    intro x2 x3 H locs ls hE hM hl hk
    unfold f_X5_sends_L9 at hE
    refine e_iload_n X hl 3 rfl dX5_sends_9 rfl ?_
    refine e_aload_n X hl 0 rfl dX5_sends_10 rfl ?_
    obtain ⟨v2, h, hE⟩ := ob_some hE
    refine r_callV1 X hM 40 rfl ck_X5 (rest := [vI x3]) (met_X5_towns_2 l G ad hp0 M h) (cwV 0 X.ht (lw_V q3187 q3189 qs75 q170 q3190) rfl rfl rfl hd_X5_towns_2 (cxR (by decide) (by decide))) rfl hl.1 rfl (Nat.le_of_ble_eq_true rfl) dX5_sends_11 ⟨Nat.le_refl _, Nat.le_refl _⟩ (fun H locs hM => ?_)
    refine e_icmp_ge X (w32 x3) (w32 v2) rfl rfl hE dX5_sends_14 rfl (fun hE => ?_) (fun hE => ?_)
    · exact hk x2 x3 _ _ _ hM (lv_sub hl [0, 1, 2, 3] rfl) hE
    · refine e_aload_n X hl 0 rfl dX5_sends_17 rfl ?_
      refine r_getR X hM ck_X5 40 15 rfl rfl (by decide) q3049 rfl dX5_sends_18 ?_
      refine e_iload_n X hl 3 rfl dX5_sends_21 rfl ?_
      refine r_iald X hM 15 rfl (Nat.le_of_ble_eq_true rfl) hE dX5_sends_22 (fun v3 hE => ?_)
      obtain ⟨kj4, hkj4, hE⟩ := jn_ex hE
      have hjkj4 : ∀ (v5 : Int) (H : Heap) (locs : List Loc) (ls : Array Slot), RW G dX5 ad hp0 M H locs → lv_has ls 5 [(0, .ref (ad 40)), (1, vI b1), (2, vI v5), (3, vI x3)] → kj4 v5 = some out → W p l e (rmD 3) s m args below meth c H locs 0 0 (QR below G dX5 ad hp0 args s (some (vI out.1)) out.2) (F0 m 61 ls []) := by
        intro v5 H locs ls hM hl hE
        subst hkj4
        refine e_iinc X hl 3 hE (fun v6 => [(3, vI v6), (0, .ref (ad 40)), (1, vI b1), (2, vI v5)]) rfl dX5_sends_61 (by decide) (fun _ => rfl) (fun v6 hE ls hl => ?_)
        refine e_goto X dX5_sends_64 rfl ?_
        exact ih v5 v6 _ _ _ hE hM (lv_sub hl [1, 2, 3, 0] rfl) hk
      refine e_if_ge X (w32 v3) rfl hE dX5_sends_23 rfl (fun hE => ?_) (fun hE => ?_)
      · exact hjkj4 x2 _ _ _ hM (lv_sub hl [0, 1, 2, 3] rfl) hE
      · refine e_aload_n X hl 0 rfl dX5_sends_26 rfl ?_
        refine r_getR X hM ck_X5 40 16 rfl rfl (by decide) q3050 rfl dX5_sends_27 ?_
        refine e_iload_n X hl 3 rfl dX5_sends_30 rfl ?_
        refine r_lald X hM 16 rfl (Nat.le_of_ble_eq_true rfl) hE dX5_sends_31 (fun v7 hE => ?_)
        refine e_ldc2 X 9223372036854775807 q3330 (by decide) dX5_sends_32 ?_
        refine e_lcmp_eq X (w64 v7) 9223372036854775807 rfl (by decide) hE dX5_sends_35 dX5_sends_36 rfl (fun hE => ?_) (fun hE => ?_)
        · exact hjkj4 x2 _ _ _ hM (lv_sub hl [0, 1, 2, 3] rfl) hE
        · refine e_iload_n X hl 2 rfl dX5_sends_39 rfl ?_
          refine e_if_lt X (w32 x2) rfl hE dX5_sends_40 rfl (fun hE => ?_) (fun hE => ?_)
          · refine e_iload_n X hl 3 rfl dX5_sends_59 rfl ?_
            refine e_istore_n X hl [(2, vI x3), (0, .ref (ad 40)), (1, vI b1), (3, vI x3)] dX5_sends_60 rfl (by decide) rfl (fun ls hl => ?_)
            exact hjkj4 x3 _ _ _ hM (lv_sub hl [1, 2, 0, 3] rfl) hE
          · refine e_aload_n X hl 0 rfl dX5_sends_43 rfl ?_
            refine r_getR X hM ck_X5 40 16 rfl rfl (by decide) q3050 rfl dX5_sends_44 ?_
            refine e_iload_n X hl 3 rfl dX5_sends_47 rfl ?_
            refine r_lald X hM 16 rfl (Nat.le_of_ble_eq_true rfl) hE dX5_sends_48 (fun v8 hE => ?_)
            refine e_aload_n X hl 0 rfl dX5_sends_49 rfl ?_
            refine r_getR X hM ck_X5 40 16 rfl rfl (by decide) q3050 rfl dX5_sends_50 ?_
            refine e_iload_n X hl 2 rfl dX5_sends_53 rfl ?_
            refine r_lald X hM 16 rfl (Nat.le_of_ble_eq_true rfl) hE dX5_sends_54 (fun v9 hE => ?_)
            refine e_lcmp_ge X (w64 v8) (w64 v9) rfl rfl hE dX5_sends_55 dX5_sends_56 rfl (fun hE => ?_) (fun hE => ?_)
            · exact hjkj4 x2 _ _ _ hM (lv_sub hl [0, 1, 2, 3] rfl) hE
            · refine e_iload_n X hl 3 rfl dX5_sends_59 rfl ?_
              refine e_istore_n X hl [(2, vI x3), (0, .ref (ad 40)), (1, vI b1), (3, vI x3)] dX5_sends_60 rfl (by decide) rfl (fun ls hl => ?_)
              exact hjkj4 x3 _ _ _ hM (lv_sub hl [1, 2, 0, 3] rfl) hE
theorem wl_X5_sends_109 {p : Program} {l : Launch} {e : Env} {s : State} {m : MethodId} {args : Array Value} {below : List Frame} {meth : Method} {c : Code} {G : GG} {ad : Nat → Nat} {hp0 : HP} (X : CX p s m args meth c cX5_sends 5 RX5 (some .boolean) G) {N : Nat} {M : RM} {b1 : Int} {b2 : Int}  {k : Int → Int → Option (Int × RM)} {out : (Int × RM)} : ∀ (n : Nat) (x3 : Int) (x4 : Int) (H : Heap) (locs : List Loc) (ls : Array Slot) (hE : f_X5_sends_L109 N M b1 b2 k n x3 x4 = some out) (hM : RW G dX5 ad hp0 M H locs) (hl : lv_has ls 5 [(0, .ref (ad 40)), (1, vI b1), (2, vI b2), (3, vI x3), (4, vI x4)]) (hk : ∀ (x3 : Int) (x4 : Int) (H : Heap) (locs : List Loc) (ls : Array Slot), RW G dX5 ad hp0 M H locs → lv_has ls 5 [(0, .ref (ad 40)), (1, vI b1), (2, vI b2), (3, vI x3), (4, vI x4)] → k x3 x4 = some out → W p l e (rmD 3) s m args below meth c H locs 0 0 (QR below G dX5 ad hp0 args s (some (vI out.1)) out.2) (F0 m 163 ls [])), W p l e (rmD 3) s m args below meth c H locs 0 0 (QR below G dX5 ad hp0 args s (some (vI out.1)) out.2) (F0 m 109 ls []) := by
  intro n
  induction n with
  | zero =>
    intro x3 x4 H locs ls hE hM hl hk
    unfold f_X5_sends_L109 at hE
    cases hE
  | succ n ih =>
    intro x3 x4 H locs ls hE hM hl hk
    unfold f_X5_sends_L109 at hE
    refine e_iload X hl 4 rfl dX5_sends_109 ?_
    refine e_iload_n X hl 1 rfl dX5_sends_111 rfl ?_
    refine e_icmp_eq X (w32 x4) (w32 b1) rfl rfl hE dX5_sends_112 rfl (fun hE => ?_) (fun hE => ?_)
    · exact hk x3 x4 _ _ _ hM (lv_sub hl [0, 1, 2, 3, 4] rfl) hE
    · refine e_aload_n X hl 0 rfl dX5_sends_115 rfl ?_
      refine e_aload_n X hl 0 rfl dX5_sends_116 rfl ?_
      refine r_getR X hM ck_X5 40 17 rfl rfl (by decide) q3051 rfl dX5_sends_117 ?_
      refine e_iload X hl 4 rfl dX5_sends_120 ?_
      refine r_iald X hM 17 rfl (Nat.le_of_ble_eq_true rfl) hE dX5_sends_122 (fun v16 hE => ?_)
      obtain ⟨v17, h, hE⟩ := ob_some hE
      refine r_callV1 X hM 40 rfl ck_X5 (rest := []) (met_X5_room l G ad hp0 M v16 h) (cwV 1 X.ht (lw_V q3335 q3337 qs100 q170 q3338) rfl rfl rfl hd_X5_room (cxR (by decide) (by decide))) rfl hl.1 rfl (Nat.le_of_ble_eq_true rfl) dX5_sends_123 ⟨Nat.le_refl _, Nat.le_refl _⟩ (fun H locs hM => ?_)
      refine e_iload_n X hl 3 rfl dX5_sends_126 rfl ?_
      obtain ⟨kj18, hkj18, hE⟩ := jn_ex hE
      have hjkj18 : ∀ (v19 : Int) (H : Heap) (locs : List Loc) (ls : Array Slot), RW G dX5 ad hp0 M H locs → lv_has ls 5 [(0, .ref (ad 40)), (1, vI b1), (2, vI b2), (4, vI x4)] → kj18 v19 = some out → W p l e (rmD 3) s m args below meth c H locs 0 0 (QR below G dX5 ad hp0 args s (some (vI out.1)) out.2) (F0 m 145 ls [vI v19]) := by
        intro v19 H locs ls hM hl hE
        subst hkj18
        refine e_istore_n X hl [(3, vI v19), (0, .ref (ad 40)), (1, vI b1), (2, vI b2), (4, vI x4)] dX5_sends_145 rfl (by decide) rfl (fun ls hl => ?_)
        refine e_aload_n X hl 1 rfl dX5_sends_146 rfl ?_
        refine e_aload_n X hl 1 rfl dX5_sends_147 rfl ?_
        refine r_getR X hM ck_X5 40 17 rfl rfl (by decide) q3051 rfl dX5_sends_148 ?_
        refine e_iload X hl 4 rfl dX5_sends_151 ?_
        refine r_iald X hM 17 rfl (Nat.le_of_ble_eq_true rfl) hE dX5_sends_153 (fun v20 hE => ?_)
        refine e_iconst X dX5_sends_154 ?_
        obtain ⟨v21, h, hE⟩ := ob_some hE
        refine r_callV1 X hM 40 rfl ck_X5 (rest := []) (met_X5_leads l G ad hp0 M v20 1 h) (cwV 2 X.ht (lw_V q3331 q3333 qs99 q170 q3334) rfl rfl rfl hd_X5_leads (cxR (by decide) (by decide))) rfl hl.1 rfl (Nat.le_of_ble_eq_true rfl) dX5_sends_155 ⟨Nat.le_refl _, Nat.le_refl _⟩ (fun H locs hM => ?_)
        refine e_istore X hl [(4, vI v21), (3, vI v19), (0, .ref (ad 40)), (1, vI b1), (2, vI b2)] dX5_sends_158 (by decide) rfl (fun ls hl => ?_)
        refine e_goto X dX5_sends_160 rfl ?_
        exact ih v19 v21 _ _ _ hE hM (lv_sub hl [2, 3, 4, 1, 0] rfl) hk
      refine e_icmp_ge X (w32 v17) (w32 x3) rfl rfl hE dX5_sends_127 rfl (fun hE => ?_) (fun hE => ?_)
      · refine e_iload_n X hl 3 rfl dX5_sends_144 rfl ?_
        exact hjkj18 x3 _ _ _ hM (lv_sub hl [0, 1, 2, 4] rfl) hE
      · refine e_aload_n X hl 0 rfl dX5_sends_130 rfl ?_
        refine e_aload_n X hl 0 rfl dX5_sends_131 rfl ?_
        refine r_getR X hM ck_X5 40 17 rfl rfl (by decide) q3051 rfl dX5_sends_132 ?_
        refine e_iload X hl 4 rfl dX5_sends_135 ?_
        refine r_iald X hM 17 rfl (Nat.le_of_ble_eq_true rfl) hE dX5_sends_137 (fun v22 hE => ?_)
        obtain ⟨v23, h, hE⟩ := ob_some hE
        refine r_callV1 X hM 40 rfl ck_X5 (rest := []) (met_X5_room l G ad hp0 M v22 h) (cwV 1 X.ht (lw_V q3335 q3337 qs100 q170 q3338) rfl rfl rfl hd_X5_room (cxR (by decide) (by decide))) rfl hl.1 rfl (Nat.le_of_ble_eq_true rfl) dX5_sends_138 ⟨Nat.le_refl _, Nat.le_refl _⟩ (fun H locs hM => ?_)
        refine e_goto X dX5_sends_141 rfl ?_
        exact hjkj18 v23 _ _ _ hM (lv_sub hl [0, 1, 2, 4] rfl) hE
theorem wl_X5_sends_166 {p : Program} {l : Launch} {e : Env} {s : State} {m : MethodId} {args : Array Value} {below : List Frame} {meth : Method} {c : Code} {G : GG} {ad : Nat → Nat} {hp0 : HP} (X : CX p s m args meth c cX5_sends 5 RX5 (some .boolean) G) {N : Nat} {b1 : Int} {b2 : Int} {b3 : Int}  {k : RM → Int → Option (Int × RM)} {out : (Int × RM)} : ∀ (n : Nat) (M : RM) (x4 : Int) (H : Heap) (locs : List Loc) (ls : Array Slot) (hE : f_X5_sends_L166 N b1 b2 b3 k n M x4 = some out) (hM : RW G dX5 ad hp0 M H locs) (hl : lv_has ls 5 [(0, .ref (ad 40)), (1, vI b1), (2, vI b2), (3, vI b3), (4, vI x4)]) (hk : ∀ (M : RM) (x4 : Int) (H : Heap) (locs : List Loc) (ls : Array Slot), RW G dX5 ad hp0 M H locs → lv_has ls 5 [(0, .ref (ad 40)), (1, vI b1), (2, vI b2), (3, vI b3), (4, vI x4)] → k M x4 = some out → W p l e (rmD 3) s m args below meth c H locs 0 0 (QR below G dX5 ad hp0 args s (some (vI out.1)) out.2) (F0 m 201 ls [])), W p l e (rmD 3) s m args below meth c H locs 0 0 (QR below G dX5 ad hp0 args s (some (vI out.1)) out.2) (F0 m 166 ls []) := by
  intro n
  induction n with
  | zero =>
    intro M x4 H locs ls hE hM hl hk
    unfold f_X5_sends_L166 at hE
    cases hE
  | succ n ih =>
    intro M x4 H locs ls hE hM hl hk
    unfold f_X5_sends_L166 at hE
    refine e_iload X hl 4 rfl dX5_sends_166 ?_
    refine e_iload_n X hl 1 rfl dX5_sends_168 rfl ?_
    refine e_icmp_eq X (w32 x4) (w32 b1) rfl rfl hE dX5_sends_169 rfl (fun hE => ?_) (fun hE => ?_)
    · exact hk M x4 _ _ _ hM (lv_sub hl [0, 1, 2, 3, 4] rfl) hE
    · refine e_aload_n X hl 0 rfl dX5_sends_172 rfl ?_
      refine e_aload_n X hl 0 rfl dX5_sends_173 rfl ?_
      refine r_getR X hM ck_X5 40 17 rfl rfl (by decide) q3051 rfl dX5_sends_174 ?_
      refine e_iload X hl 4 rfl dX5_sends_177 ?_
      refine r_iald X hM 17 rfl (Nat.le_of_ble_eq_true rfl) hE dX5_sends_179 (fun v26 hE => ?_)
      refine e_iload_n X hl 3 rfl dX5_sends_180 rfl ?_
      obtain ⟨M27, h, hE⟩ := ob_some hE
      refine r_callV0 X hM 40 rfl ck_X5 (rest := []) (met_X5_goes l G ad hp0 M v26 b3 h) (cwV 2 X.ht (lw_V q3343 q3345 qs102 q170 q3346) rfl rfl rfl hd_X5_goes (cxR (by decide) (by decide))) rfl hl.1 rfl (Nat.le_of_ble_eq_true rfl) dX5_sends_181 ⟨Nat.le_refl _, Nat.le_refl _⟩ (fun H locs hM => ?_)
      refine e_aload_n X hl 0 rfl dX5_sends_184 rfl ?_
      refine e_aload_n X hl 0 rfl dX5_sends_185 rfl ?_
      refine r_getR X hM ck_X5 40 17 rfl rfl (by decide) q3051 rfl dX5_sends_186 ?_
      refine e_iload X hl 4 rfl dX5_sends_189 ?_
      refine r_iald X hM 17 rfl (Nat.le_of_ble_eq_true rfl) hE dX5_sends_191 (fun v28 hE => ?_)
      refine e_iconst X dX5_sends_192 ?_
      obtain ⟨v29, h, hE⟩ := ob_some hE
      refine r_callV1 X hM 40 rfl ck_X5 (rest := []) (met_X5_leads l G ad hp0 M27 v28 1 h) (cwV 2 X.ht (lw_V q3331 q3333 qs99 q170 q3334) rfl rfl rfl hd_X5_leads (cxR (by decide) (by decide))) rfl hl.1 rfl (Nat.le_of_ble_eq_true rfl) dX5_sends_193 ⟨Nat.le_refl _, Nat.le_refl _⟩ (fun H locs hM => ?_)
      refine e_istore X hl [(4, vI v29), (0, .ref (ad 40)), (1, vI b1), (2, vI b2), (3, vI b3)] dX5_sends_196 (by decide) rfl (fun ls hl => ?_)
      refine e_goto X dX5_sends_198 rfl ?_
      exact ih M27 v29 _ _ _ hE hM (lv_sub hl [1, 2, 3, 4, 0] rfl) hk
theorem wb_X5_sends {p : Program} {l : Launch} {e : Env} {s : State} {m : MethodId} {args : Array Value} {below : List Frame} {meth : Method} {c : Code} {G : GG} {ad : Nat → Nat} {hp0 : HP} (X : CX p s m args meth c cX5_sends 5 RX5 (some .boolean) G) {N : Nat} {M : RM} {a1 : Int}   {out : (Int × RM)} (hE : f_X5_sends N M a1 = some out) {H : Heap} {locs : List Loc} {ls : Array Slot} (hM : RW G dX5 ad hp0 M H locs) (hl : lv_has ls 5 [(0, .ref (ad 40)), (1, vI a1)]) : W p l e (rmD 3) s m args below meth c H locs 0 0 (QR below G dX5 ad hp0 args s (some (vI out.1)) out.2) (F0 m 0 ls []) := by
  unfold f_X5_sends at hE
  refine e_aload_n X hl 0 rfl dX5_sends_0 rfl ?_
  refine e_iload_n X hl 1 rfl dX5_sends_1 rfl ?_
  obtain ⟨M1, h, hE⟩ := ob_some hE
  refine r_callV0 X hM 40 rfl ck_X5 (rest := []) (met_X5_reaches l G ad hp0 M a1 h) (cwV 1 X.ht (lw_V q3326 q3328 qs98 q170 q3329) rfl rfl rfl hd_X5_reaches (cxR (by decide) (by decide))) rfl hl.1 rfl (Nat.le_of_ble_eq_true rfl) dX5_sends_2 ⟨Nat.le_refl _, Nat.le_refl _⟩ (fun H locs hM => ?_)
  refine e_iconst X dX5_sends_5 ?_
  refine e_istore_n X hl [(2, vI (-1)), (0, .ref (ad 40)), (1, vI a1)] dX5_sends_6 rfl (by decide) rfl (fun ls hl => ?_)
  refine e_iconst X dX5_sends_7 ?_
  refine e_istore_n X hl [(3, vI 0), (2, vI (-1)), (0, .ref (ad 40)), (1, vI a1)] dX5_sends_8 rfl (by decide) rfl (fun ls hl => ?_)
  refine wl_X5_sends_9 X _ (-1) 0 _ _ _ hE hM (lv_sub hl [2, 3, 1, 0] rfl) (fun v10 v11 H locs ls hM hl hE => ?_)
  refine e_iload_n X hl 2 rfl dX5_sends_67 rfl ?_
  refine e_if_ge X (w32 v10) rfl hE dX5_sends_68 rfl (fun hE => ?_) (fun hE => ?_)
  · refine e_aload_n X hl 0 rfl dX5_sends_73 rfl ?_
    refine r_getR X hM ck_X5 40 15 rfl rfl (by decide) q3049 rfl dX5_sends_74 ?_
    refine e_iload_n X hl 1 rfl dX5_sends_77 rfl ?_
    refine r_iald X hM 15 rfl (Nat.le_of_ble_eq_true rfl) hE dX5_sends_78 (fun v12 hE => ?_)
    refine e_aload_n X hl 0 rfl dX5_sends_79 rfl ?_
    refine r_getR X hM ck_X5 40 15 rfl rfl (by decide) q3049 rfl dX5_sends_80 ?_
    refine e_iload_n X hl 2 rfl dX5_sends_83 rfl ?_
    refine r_iald X hM 15 rfl (Nat.le_of_ble_eq_true rfl) hE dX5_sends_84 (fun v13 hE => ?_)
    refine e_ineg X dX5_sends_85 ?_
    obtain ⟨kj14, hkj14, hE⟩ := jn_ex hE
    have hjkj14 : ∀ (v15 : Int) (H : Heap) (locs : List Loc) (ls : Array Slot), RW G dX5 ad hp0 M1 H locs → lv_has ls 5 [(0, .ref (ad 40)), (1, vI a1), (2, vI v10)] → kj14 v15 = some out → W p l e (rmD 3) s m args below meth c H locs 0 0 (QR below G dX5 ad hp0 args s (some (vI out.1)) out.2) (F0 m 105 ls [vI v15]) := by
      intro v15 H locs ls hM hl hE
      subst hkj14
      refine e_istore_n X hl [(3, vI v15), (0, .ref (ad 40)), (1, vI a1), (2, vI v10)] dX5_sends_105 rfl (by decide) rfl (fun ls hl => ?_)
      refine e_iload_n X hl 3 rfl dX5_sends_106 rfl ?_
      refine e_istore X hl [(4, vI v10), (3, vI v15), (0, .ref (ad 40)), (1, vI a1), (2, vI v10)] dX5_sends_107 (by decide) rfl (fun ls hl => ?_)
      refine wl_X5_sends_109 X _ v15 v10 _ _ _ hE hM (lv_sub hl [2, 3, 4, 1, 0] rfl) (fun v24 v25 H locs ls hM hl hE => ?_)
      refine e_iload_n X hl 2 rfl dX5_sends_163 rfl ?_
      refine e_istore X hl [(4, vI v10), (0, .ref (ad 40)), (1, vI a1), (2, vI v10), (3, vI v24)] dX5_sends_164 (by decide) rfl (fun ls hl => ?_)
      refine wl_X5_sends_166 X _ M1 v10 _ _ _ hE hM (lv_sub hl [1, 2, 3, 4, 0] rfl) (fun M30 v31 H locs ls hM hl hE => ?_)
      refine e_aload_n X hl 0 rfl dX5_sends_201 rfl ?_
      refine r_getR X hM ck_X5 40 15 rfl rfl (by decide) q3049 rfl dX5_sends_202 ?_
      refine e_iload_n X hl 1 rfl dX5_sends_205 rfl ?_
      refine e_dup2 X dX5_sends_206 rfl rfl ?_
      refine r_iald X hM 15 rfl (Nat.le_of_ble_eq_true rfl) hE dX5_sends_207 (fun v32 hE => ?_)
      refine e_iload_n X hl 3 rfl dX5_sends_208 rfl ?_
      refine e_isub X dX5_sends_209 ?_
      refine r_iast X hM 15 rfl (Nat.le_of_ble_eq_true rfl) hE dX5_sends_210 (fun M33 hE H locs hM => ?_)
      refine e_aload_n X hl 0 rfl dX5_sends_211 rfl ?_
      refine r_getR X hM ck_X5 40 15 rfl rfl (by decide) q3049 rfl dX5_sends_212 ?_
      refine e_iload_n X hl 2 rfl dX5_sends_215 rfl ?_
      refine e_dup2 X dX5_sends_216 rfl rfl ?_
      refine r_iald X hM 15 rfl (Nat.le_of_ble_eq_true rfl) hE dX5_sends_217 (fun v34 hE => ?_)
      refine e_iload_n X hl 3 rfl dX5_sends_218 rfl ?_
      refine e_iadd X dX5_sends_219 ?_
      refine r_iast X hM 15 rfl (Nat.le_of_ble_eq_true rfl) hE dX5_sends_220 (fun M35 hE H locs hM => ?_)
      refine e_iconst X dX5_sends_221 ?_
      cases hE
      exact r_zret (x := 1) X hM rfl dX5_sends_222
    refine e_icmp_ge X (w32 v12) (w32 (-v13)) rfl rfl hE dX5_sends_86 rfl (fun hE => ?_) (fun hE => ?_)
    · refine e_aload_n X hl 0 rfl dX5_sends_98 rfl ?_
      refine r_getR X hM ck_X5 40 15 rfl rfl (by decide) q3049 rfl dX5_sends_99 ?_
      refine e_iload_n X hl 2 rfl dX5_sends_102 rfl ?_
      refine r_iald X hM 15 rfl (Nat.le_of_ble_eq_true rfl) hE dX5_sends_103 (fun v36 hE => ?_)
      refine e_ineg X dX5_sends_104 ?_
      exact hjkj14 (-v36) _ _ _ hM (lv_sub hl [0, 1, 2] rfl) hE
    · refine e_aload_n X hl 0 rfl dX5_sends_89 rfl ?_
      refine r_getR X hM ck_X5 40 15 rfl rfl (by decide) q3049 rfl dX5_sends_90 ?_
      refine e_iload_n X hl 1 rfl dX5_sends_93 rfl ?_
      refine r_iald X hM 15 rfl (Nat.le_of_ble_eq_true rfl) hE dX5_sends_94 (fun v37 hE => ?_)
      refine e_goto X dX5_sends_95 rfl ?_
      exact hjkj14 v37 _ _ _ hM (lv_sub hl [0, 1, 2] rfl) hE
  · refine e_iconst X dX5_sends_71 ?_
    cases hE
    exact r_zret (x := 0) X hM rfl dX5_sends_72
theorem met_X5_sends (l : Launch) (G : GG) (ad : Nat → Nat) (hp0 : HP) {N : Nat} (M : RM) (a1 : Int)  {out : (Int × RM)} (hE : f_X5_sends N M a1 = some out) : MR l yX5_sends (ws_ yX5_sends cX5_sends 5 (some .boolean)) 3 G dX5 ad hp0 [.ref (ad 40), vI a1] M (some (vI out.1)) out.2 :=
  MR.of (by decide) (Nat.le_of_ble_eq_true rfl) rfl (fun p e s m below meth c ls X hM hl => wb_X5_sends X hE hM hl)
def f_X5_supplied_L4 (N : Nat) (M0 : RM)  (k : Int → Int → Option Int) : Nat → Int → Int → Option Int
  | 0, _, _ => none
  | n + 1, x1, x2 =>
    ob (f_X5_towns_2 M0) fun v1 => if w32 v1 ≤ w32 x2 then (k x1 x2) else (ob (gA 110 M0 0 (2 + x2)) fun v2 => jn (x1 + v2) fun v3 => jn (x2 + 1) fun v4 => f_X5_supplied_L4 N M0  k n v3 v4)
def f_X5_supplied (N : Nat) (M0 : RM)  : Option Int :=
  f_X5_supplied_L4 N M0  (fun (v5 : Int) (v6 : Int) => some v5) N 0 0
theorem hd_X5_supplied : yX5_supplied.cls = RX5 ∧ yX5_supplied.cls ≠ "java/lang/invoke/MethodHandle" ∧ yX5_supplied.cls ≠ "java/lang/invoke/VarHandle" ∧ (parseMethodDescriptor yX5_supplied.desc).map (fun d => d.parameters.length) = some 0 := by decide +kernel
theorem wl_X5_supplied_4 {p : Program} {l : Launch} {e : Env} {s : State} {m : MethodId} {args : Array Value} {below : List Frame} {meth : Method} {c : Code} {G : GG} {ad : Nat → Nat} {hp0 : HP} {M0 : RM} (X : CX p s m args meth c cX5_supplied 3 RX5 (some .int) G) {N : Nat}   {k : Int → Int → Option Int} {out : Int} : ∀ (n : Nat) (x1 : Int) (x2 : Int) (H : Heap) (locs : List Loc) (ls : Array Slot) (hE : f_X5_supplied_L4 N M0  k n x1 x2 = some out) (hM : RW G dX5 ad hp0 M0 H locs) (hl : lv_has ls 3 [(0, .ref (ad 40)), (1, vI x1), (2, vI x2)]) (hk : ∀ (x1 : Int) (x2 : Int) (H : Heap) (locs : List Loc) (ls : Array Slot), RW G dX5 ad hp0 M0 H locs → lv_has ls 3 [(0, .ref (ad 40)), (1, vI x1), (2, vI x2)] → k x1 x2 = some out → W p l e (rmD 1) s m args below meth c H locs 0 0 (QR below G dX5 ad hp0 args s (some (vI out)) M0) (F0 m 29 ls [])), W p l e (rmD 1) s m args below meth c H locs 0 0 (QR below G dX5 ad hp0 args s (some (vI out)) M0) (F0 m 4 ls []) := by
  intro n
  induction n with
  | zero =>
    intro x1 x2 H locs ls hE hM hl hk
    unfold f_X5_supplied_L4 at hE
    cases hE
  | succ n ih =>
    intro x1 x2 H locs ls hE hM hl hk
    unfold f_X5_supplied_L4 at hE
    refine e_iload_n X hl 2 rfl dX5_supplied_4 rfl ?_
    refine e_aload_n X hl 0 rfl dX5_supplied_5 rfl ?_
    obtain ⟨v1, h, hE⟩ := ob_some hE
    refine r_callV1 X hM 40 rfl ck_X5 (rest := [vI x2]) (met_X5_towns_2 l G ad hp0 M0 h) (cwV 0 X.ht (lw_V q3187 q3189 qs75 q170 q3190) rfl rfl rfl hd_X5_towns_2 (cxR (by decide) (by decide))) rfl hl.1 rfl (Nat.le_of_ble_eq_true rfl) dX5_supplied_6 ⟨Nat.le_refl _, Nat.le_refl _⟩ (fun H locs hM => ?_)
    refine e_icmp_ge X (w32 x2) (w32 v1) rfl rfl hE dX5_supplied_9 rfl (fun hE => ?_) (fun hE => ?_)
    · exact hk x1 x2 _ _ _ hM (lv_sub hl [0, 1, 2] rfl) hE
    · refine e_iload_n X hl 1 rfl dX5_supplied_12 rfl ?_
      refine e_aload_n X hl 0 rfl dX5_supplied_13 rfl ?_
      refine r_getR X hM ck_X5 40 0 rfl rfl (by decide) q3034 rfl dX5_supplied_14 ?_
      refine e_iconst X dX5_supplied_17 ?_
      refine e_iload_n X hl 2 rfl dX5_supplied_18 rfl ?_
      refine e_iadd X dX5_supplied_19 ?_
      refine r_iald X hM 0 rfl (Nat.le_of_ble_eq_true rfl) hE dX5_supplied_20 (fun v2 hE => ?_)
      refine e_iadd X dX5_supplied_21 ?_
      refine e_top hE (fun v3 hE => ?_)
      refine e_istore_n X hl [(1, vI v3), (0, .ref (ad 40)), (2, vI x2)] dX5_supplied_22 rfl (by decide) rfl (fun ls hl => ?_)
      refine e_iinc X hl 2 hE (fun v4 => [(2, vI v4), (1, vI v3), (0, .ref (ad 40))]) rfl dX5_supplied_23 (by decide) (fun _ => rfl) (fun v4 hE ls hl => ?_)
      refine e_goto X dX5_supplied_26 rfl ?_
      exact ih v3 v4 _ _ _ hE hM (lv_sub hl [2, 1, 0] rfl) hk
theorem wb_X5_supplied {p : Program} {l : Launch} {e : Env} {s : State} {m : MethodId} {args : Array Value} {below : List Frame} {meth : Method} {c : Code} {G : GG} {ad : Nat → Nat} {hp0 : HP} {M0 : RM} (X : CX p s m args meth c cX5_supplied 3 RX5 (some .int) G) {N : Nat}   {out : Int} (hE : f_X5_supplied N M0 = some out) {H : Heap} {locs : List Loc} {ls : Array Slot} (hM : RW G dX5 ad hp0 M0 H locs) (hl : lv_has ls 3 [(0, .ref (ad 40))]) : W p l e (rmD 1) s m args below meth c H locs 0 0 (QR below G dX5 ad hp0 args s (some (vI out)) M0) (F0 m 0 ls []) := by
  unfold f_X5_supplied at hE
  refine e_iconst X dX5_supplied_0 ?_
  refine e_istore_n X hl [(1, vI 0), (0, .ref (ad 40))] dX5_supplied_1 rfl (by decide) rfl (fun ls hl => ?_)
  refine e_iconst X dX5_supplied_2 ?_
  refine e_istore_n X hl [(2, vI 0), (1, vI 0), (0, .ref (ad 40))] dX5_supplied_3 rfl (by decide) rfl (fun ls hl => ?_)
  refine wl_X5_supplied_4 X _ 0 0 _ _ _ hE hM (lv_sub hl [2, 1, 0] rfl) (fun v5 v6 H locs ls hM hl hE => ?_)
  refine e_iload_n X hl 1 rfl dX5_supplied_29 rfl ?_
  cases hE
  exact r_zret X hM rfl dX5_supplied_30
theorem met_X5_supplied (l : Launch) (G : GG) (ad : Nat → Nat) (hp0 : HP) {N : Nat} (M0 : RM)   {out : Int} (hE : f_X5_supplied N M0 = some out) : MR l yX5_supplied (ws_ yX5_supplied cX5_supplied 3 (some .int)) 1 G dX5 ad hp0 [.ref (ad 40)] M0 (some (vI out)) M0 :=
  MR.of (by decide) (Nat.le_of_ble_eq_true rfl) rfl (fun p e s m below meth c ls X hM hl => wb_X5_supplied X hE hM hl)
def f_X5_isCheap_L2 (N : Nat)  (k : RM → Int → Option (Int × RM)) : Nat → RM → Int → Option (Int × RM)
  | 0, _, _ => none
  | n + 1, M, x1 =>
    ob (f_X5_many M) fun v1 => if w32 v1 ≤ w32 x1 then (k M x1) else (ob (gA 25 M 1 x1) fun v2 => jn (fun (v4 : Int) => ob (sA 25 M 14 x1 v4) fun M5 => jn (x1 + 1) fun v6 => f_X5_isCheap_L2 N  k n M5 v6) fun kj3 => if 0 ≤ w64 v2 then (ob (f_X5_low M x1) fun v7 => kj3 v7) else (ob (f_X5_most M x1) fun v8 => kj3 v8))
def f_X5_isCheap_L60 (N : Nat) (b1 : Int) (k : RM → Option (Int × RM)) : Nat → RM → Option (Int × RM)
  | 0, _ => none
  | n + 1, M =>
    ob (gA 8 M 15 b1) fun v13 => if w32 v13 ≤ 0 then (k M) else (ob2 (f_X5_sends N M b1) fun v14 M15 => if ¬ w32 v14 = 0 then (f_X5_isCheap_L60 N b1 k n M15) else (some (0, M15)))
def f_X5_isCheap_L52 (N : Nat)  (k : RM → Int → Option (Int × RM)) : Nat → RM → Int → Option (Int × RM)
  | 0, _, _ => none
  | n + 1, M, x1 =>
    ob (f_X5_towns_2 M) fun v12 => if w32 v12 ≤ w32 x1 then (k M x1) else (f_X5_isCheap_L60 N x1 (fun (M16 : RM) => jn (x1 + 1) fun v17 => f_X5_isCheap_L52 N  k n M16 v17) N M)
def f_X5_isCheap (N : Nat) (M : RM)  : Option (Int × RM) :=
  f_X5_isCheap_L2 N  (fun (M9 : RM) (v10 : Int) => ob (f_X5_balance N M9) fun M11 => f_X5_isCheap_L52 N  (fun (M18 : RM) (v19 : Int) => ob (f_X5_supplied N M18) fun v20 => if ¬ w32 v20 = 0 then (some (0, M18)) else (some (1, M18))) N M11 0) N M 0
theorem hd_X5_isCheap : yX5_isCheap.cls = RX5 ∧ yX5_isCheap.cls ≠ "java/lang/invoke/MethodHandle" ∧ yX5_isCheap.cls ≠ "java/lang/invoke/VarHandle" ∧ (parseMethodDescriptor yX5_isCheap.desc).map (fun d => d.parameters.length) = some 0 := by decide +kernel
theorem wl_X5_isCheap_2 {p : Program} {l : Launch} {e : Env} {s : State} {m : MethodId} {args : Array Value} {below : List Frame} {meth : Method} {c : Code} {G : GG} {ad : Nat → Nat} {hp0 : HP} (X : CX p s m args meth c cX5_isCheap 2 RX5 (some .boolean) G) {N : Nat}   {k : RM → Int → Option (Int × RM)} {out : (Int × RM)} : ∀ (n : Nat) (M : RM) (x1 : Int) (H : Heap) (locs : List Loc) (ls : Array Slot) (hE : f_X5_isCheap_L2 N  k n M x1 = some out) (hM : RW G dX5 ad hp0 M H locs) (hl : lv_has ls 2 [(0, .ref (ad 40)), (1, vI x1)]) (hk : ∀ (M : RM) (x1 : Int) (H : Heap) (locs : List Loc) (ls : Array Slot), RW G dX5 ad hp0 M H locs → lv_has ls 2 [(0, .ref (ad 40)), (1, vI x1)] → k M x1 = some out → W p l e (rmD 4) s m args below meth c H locs 0 0 (QR below G dX5 ad hp0 args s (some (vI out.1)) out.2) (F0 m 46 ls [])), W p l e (rmD 4) s m args below meth c H locs 0 0 (QR below G dX5 ad hp0 args s (some (vI out.1)) out.2) (F0 m 2 ls []) := by
  intro n
  induction n with
  | zero =>
    intro M x1 H locs ls hE hM hl hk
    unfold f_X5_isCheap_L2 at hE
    cases hE
  | succ n ih =>
    intro M x1 H locs ls hE hM hl hk
    unfold f_X5_isCheap_L2 at hE
    refine e_iload_n X hl 1 rfl dX5_isCheap_2 rfl ?_
    refine e_aload_n X hl 0 rfl dX5_isCheap_3 rfl ?_
    obtain ⟨v1, h, hE⟩ := ob_some hE
    refine r_callV1 X hM 40 rfl ck_X5 (rest := [vI x1]) (met_X5_many l G ad hp0 M h) (cwV 0 X.ht (lw_V q3206 q3208 qs77 q170 q3209) rfl rfl rfl hd_X5_many (cxR (by decide) (by decide))) rfl hl.1 rfl (Nat.le_of_ble_eq_true rfl) dX5_isCheap_4 ⟨Nat.le_refl _, Nat.le_refl _⟩ (fun H locs hM => ?_)
    refine e_icmp_ge X (w32 x1) (w32 v1) rfl rfl hE dX5_isCheap_7 rfl (fun hE => ?_) (fun hE => ?_)
    · exact hk M x1 _ _ _ hM (lv_sub hl [0, 1] rfl) hE
    · refine e_aload_n X hl 0 rfl dX5_isCheap_10 rfl ?_
      refine r_getR X hM ck_X5 40 14 rfl rfl (by decide) q3048 rfl dX5_isCheap_11 ?_
      refine e_iload_n X hl 1 rfl dX5_isCheap_14 rfl ?_
      refine e_aload_n X hl 0 rfl dX5_isCheap_15 rfl ?_
      refine r_getR X hM ck_X5 40 1 rfl rfl (by decide) q3035 rfl dX5_isCheap_16 ?_
      refine e_iload_n X hl 1 rfl dX5_isCheap_19 rfl ?_
      refine r_lald X hM 1 rfl (Nat.le_of_ble_eq_true rfl) hE dX5_isCheap_20 (fun v2 hE => ?_)
      refine e_lconst X 0 dX5_isCheap_21 (by decide) ?_
      obtain ⟨kj3, hkj3, hE⟩ := jn_ex hE
      have hjkj3 : ∀ (v4 : Int) (H : Heap) (locs : List Loc) (ls : Array Slot), RW G dX5 ad hp0 M H locs → lv_has ls 2 [(0, .ref (ad 40)), (1, vI x1)] → kj3 v4 = some out → W p l e (rmD 4) s m args below meth c H locs 0 0 (QR below G dX5 ad hp0 args s (some (vI out.1)) out.2) (F0 m 39 ls [vI v4, vI x1, .ref (ad 14)]) := by
        intro v4 H locs ls hM hl hE
        subst hkj3
        refine r_iast X hM 14 rfl (Nat.le_of_ble_eq_true rfl) hE dX5_isCheap_39 (fun M5 hE H locs hM => ?_)
        refine e_iinc X hl 1 hE (fun v6 => [(1, vI v6), (0, .ref (ad 40))]) rfl dX5_isCheap_40 (by decide) (fun _ => rfl) (fun v6 hE ls hl => ?_)
        refine e_goto X dX5_isCheap_43 rfl ?_
        exact ih M5 v6 _ _ _ hE hM (lv_sub hl [1, 0] rfl) hk
      refine e_lcmp_ge X (w64 v2) 0 rfl (by decide) hE dX5_isCheap_22 dX5_isCheap_23 rfl (fun hE => ?_) (fun hE => ?_)
      · refine e_aload_n X hl 0 rfl dX5_isCheap_34 rfl ?_
        refine e_iload_n X hl 1 rfl dX5_isCheap_35 rfl ?_
        obtain ⟨v7, h, hE⟩ := ob_some hE
        refine r_callV1 X hM 40 rfl ck_X5 (rest := [vI x1, .ref (ad 14)]) (met_X5_low l G ad hp0 M x1 h) (cwV 1 X.ht (lw_V q3238 q3240 qs83 q170 q3241) rfl rfl rfl hd_X5_low (cxR (by decide) (by decide))) rfl hl.1 rfl (Nat.le_of_ble_eq_true rfl) dX5_isCheap_36 ⟨Nat.le_refl _, Nat.le_refl _⟩ (fun H locs hM => ?_)
        exact hjkj3 v7 _ _ _ hM (lv_sub hl [0, 1] rfl) hE
      · refine e_aload_n X hl 0 rfl dX5_isCheap_26 rfl ?_
        refine e_iload_n X hl 1 rfl dX5_isCheap_27 rfl ?_
        obtain ⟨v8, h, hE⟩ := ob_some hE
        refine r_callV1 X hM 40 rfl ck_X5 (rest := [vI x1, .ref (ad 14)]) (met_X5_most l G ad hp0 M x1 h) (cwV 1 X.ht (lw_V q3242 q3244 qs84 q170 q3245) rfl rfl rfl hd_X5_most (cxR (by decide) (by decide))) rfl hl.1 rfl (Nat.le_of_ble_eq_true rfl) dX5_isCheap_28 ⟨Nat.le_refl _, Nat.le_refl _⟩ (fun H locs hM => ?_)
        refine e_goto X dX5_isCheap_31 rfl ?_
        exact hjkj3 v8 _ _ _ hM (lv_sub hl [0, 1] rfl) hE
theorem wl_X5_isCheap_60 {p : Program} {l : Launch} {e : Env} {s : State} {m : MethodId} {args : Array Value} {below : List Frame} {meth : Method} {c : Code} {G : GG} {ad : Nat → Nat} {hp0 : HP} (X : CX p s m args meth c cX5_isCheap 2 RX5 (some .boolean) G) {N : Nat} {b1 : Int}  {k : RM → Option (Int × RM)} {out : (Int × RM)} : ∀ (n : Nat) (M : RM) (H : Heap) (locs : List Loc) (ls : Array Slot) (hE : f_X5_isCheap_L60 N b1 k n M = some out) (hM : RW G dX5 ad hp0 M H locs) (hl : lv_has ls 2 [(0, .ref (ad 40)), (1, vI b1)]) (hk : ∀ (M : RM) (H : Heap) (locs : List Loc) (ls : Array Slot), RW G dX5 ad hp0 M H locs → lv_has ls 2 [(0, .ref (ad 40)), (1, vI b1)] → k M = some out → W p l e (rmD 4) s m args below meth c H locs 0 0 (QR below G dX5 ad hp0 args s (some (vI out.1)) out.2) (F0 m 79 ls [])), W p l e (rmD 4) s m args below meth c H locs 0 0 (QR below G dX5 ad hp0 args s (some (vI out.1)) out.2) (F0 m 60 ls []) := by
  intro n
  induction n with
  | zero =>
    intro M H locs ls hE hM hl hk
    unfold f_X5_isCheap_L60 at hE
    cases hE
  | succ n ih =>
    intro M H locs ls hE hM hl hk
    unfold f_X5_isCheap_L60 at hE
    refine e_aload_n X hl 0 rfl dX5_isCheap_60 rfl ?_
    refine r_getR X hM ck_X5 40 15 rfl rfl (by decide) q3049 rfl dX5_isCheap_61 ?_
    refine e_iload_n X hl 1 rfl dX5_isCheap_64 rfl ?_
    refine r_iald X hM 15 rfl (Nat.le_of_ble_eq_true rfl) hE dX5_isCheap_65 (fun v13 hE => ?_)
    refine e_if_le X (w32 v13) rfl hE dX5_isCheap_66 rfl (fun hE => ?_) (fun hE => ?_)
    · exact hk M _ _ _ hM (lv_sub hl [0, 1] rfl) hE
    · refine e_aload_n X hl 0 rfl dX5_isCheap_69 rfl ?_
      refine e_iload_n X hl 1 rfl dX5_isCheap_70 rfl ?_
      obtain ⟨v14, M15, h, hE⟩ := ob2_some hE
      refine r_callV1 X hM 40 rfl ck_X5 (rest := []) (met_X5_sends l G ad hp0 M b1 h) (cwV 1 X.ht (lw_V q3322 q3324 qs97 q170 q3325) rfl rfl rfl hd_X5_sends (cxR (by decide) (by decide))) rfl hl.1 rfl (Nat.le_of_ble_eq_true rfl) dX5_isCheap_71 ⟨Nat.le_refl _, Nat.le_refl _⟩ (fun H locs hM => ?_)
      refine e_if_ne X (w32 v14) rfl hE dX5_isCheap_74 rfl (fun hE => ?_) (fun hE => ?_)
      · exact ih M15 _ _ _ hE hM (lv_sub hl [0, 1] rfl) hk
      · refine e_iconst X dX5_isCheap_77 ?_
        cases hE
        exact r_zret (x := 0) X hM rfl dX5_isCheap_78
theorem wl_X5_isCheap_52 {p : Program} {l : Launch} {e : Env} {s : State} {m : MethodId} {args : Array Value} {below : List Frame} {meth : Method} {c : Code} {G : GG} {ad : Nat → Nat} {hp0 : HP} (X : CX p s m args meth c cX5_isCheap 2 RX5 (some .boolean) G) {N : Nat}   {k : RM → Int → Option (Int × RM)} {out : (Int × RM)} : ∀ (n : Nat) (M : RM) (x1 : Int) (H : Heap) (locs : List Loc) (ls : Array Slot) (hE : f_X5_isCheap_L52 N  k n M x1 = some out) (hM : RW G dX5 ad hp0 M H locs) (hl : lv_has ls 2 [(0, .ref (ad 40)), (1, vI x1)]) (hk : ∀ (M : RM) (x1 : Int) (H : Heap) (locs : List Loc) (ls : Array Slot), RW G dX5 ad hp0 M H locs → lv_has ls 2 [(0, .ref (ad 40)), (1, vI x1)] → k M x1 = some out → W p l e (rmD 4) s m args below meth c H locs 0 0 (QR below G dX5 ad hp0 args s (some (vI out.1)) out.2) (F0 m 85 ls [])), W p l e (rmD 4) s m args below meth c H locs 0 0 (QR below G dX5 ad hp0 args s (some (vI out.1)) out.2) (F0 m 52 ls []) := by
  intro n
  induction n with
  | zero =>
    intro M x1 H locs ls hE hM hl hk
    unfold f_X5_isCheap_L52 at hE
    cases hE
  | succ n ih =>
    intro M x1 H locs ls hE hM hl hk
    unfold f_X5_isCheap_L52 at hE
    refine e_iload_n X hl 1 rfl dX5_isCheap_52 rfl ?_
    refine e_aload_n X hl 0 rfl dX5_isCheap_53 rfl ?_
    obtain ⟨v12, h, hE⟩ := ob_some hE
    refine r_callV1 X hM 40 rfl ck_X5 (rest := [vI x1]) (met_X5_towns_2 l G ad hp0 M h) (cwV 0 X.ht (lw_V q3187 q3189 qs75 q170 q3190) rfl rfl rfl hd_X5_towns_2 (cxR (by decide) (by decide))) rfl hl.1 rfl (Nat.le_of_ble_eq_true rfl) dX5_isCheap_54 ⟨Nat.le_refl _, Nat.le_refl _⟩ (fun H locs hM => ?_)
    refine e_icmp_ge X (w32 x1) (w32 v12) rfl rfl hE dX5_isCheap_57 rfl (fun hE => ?_) (fun hE => ?_)
    · exact hk M x1 _ _ _ hM (lv_sub hl [0, 1] rfl) hE
    · refine wl_X5_isCheap_60 X _ M _ _ _ hE hM (lv_sub hl [0, 1] rfl) (fun M16 H locs ls hM hl hE => ?_)
      refine e_iinc X hl 1 hE (fun v17 => [(1, vI v17), (0, .ref (ad 40))]) rfl dX5_isCheap_79 (by decide) (fun _ => rfl) (fun v17 hE ls hl => ?_)
      refine e_goto X dX5_isCheap_82 rfl ?_
      exact ih M16 v17 _ _ _ hE hM (lv_sub hl [1, 0] rfl) hk
theorem wb_X5_isCheap {p : Program} {l : Launch} {e : Env} {s : State} {m : MethodId} {args : Array Value} {below : List Frame} {meth : Method} {c : Code} {G : GG} {ad : Nat → Nat} {hp0 : HP} (X : CX p s m args meth c cX5_isCheap 2 RX5 (some .boolean) G) {N : Nat} {M : RM}   {out : (Int × RM)} (hE : f_X5_isCheap N M = some out) {H : Heap} {locs : List Loc} {ls : Array Slot} (hM : RW G dX5 ad hp0 M H locs) (hl : lv_has ls 2 [(0, .ref (ad 40))]) : W p l e (rmD 4) s m args below meth c H locs 0 0 (QR below G dX5 ad hp0 args s (some (vI out.1)) out.2) (F0 m 0 ls []) := by
  unfold f_X5_isCheap at hE
  refine e_iconst X dX5_isCheap_0 ?_
  refine e_istore_n X hl [(1, vI 0), (0, .ref (ad 40))] dX5_isCheap_1 rfl (by decide) rfl (fun ls hl => ?_)
  refine wl_X5_isCheap_2 X _ M 0 _ _ _ hE hM (lv_sub hl [1, 0] rfl) (fun M9 v10 H locs ls hM hl hE => ?_)
  refine e_aload_n X hl 0 rfl dX5_isCheap_46 rfl ?_
  obtain ⟨M11, h, hE⟩ := ob_some hE
  refine r_callV0 X hM 40 rfl ck_X5 (rest := []) (met_X5_balance l G ad hp0 M9 h) (cwV 0 X.ht (lw_V q3318 q3320 qs96 q170 q3321) rfl rfl rfl hd_X5_balance (cxR (by decide) (by decide))) rfl hl.1 rfl (Nat.le_of_ble_eq_true rfl) dX5_isCheap_47 ⟨Nat.le_refl _, Nat.le_refl _⟩ (fun H locs hM => ?_)
  refine e_iconst X dX5_isCheap_50 ?_
  refine e_istore_n X hl [(1, vI 0), (0, .ref (ad 40))] dX5_isCheap_51 rfl (by decide) rfl (fun ls hl => ?_)
  refine wl_X5_isCheap_52 X _ M11 0 _ _ _ hE hM (lv_sub hl [1, 0] rfl) (fun M18 v19 H locs ls hM hl hE => ?_)
  refine e_aload_n X hl 0 rfl dX5_isCheap_85 rfl ?_
  obtain ⟨v20, h, hE⟩ := ob_some hE
  refine r_callV1 X hM 40 rfl ck_X5 (rest := []) (met_X5_supplied l G ad hp0 M18 h) (cwV 0 X.ht (lw_V q3347 q3349 qs103 q170 q3350) rfl rfl rfl hd_X5_supplied (cxR (by decide) (by decide))) rfl hl.1 rfl (Nat.le_of_ble_eq_true rfl) dX5_isCheap_86 ⟨Nat.le_refl _, Nat.le_refl _⟩ (fun H locs hM => ?_)
  refine e_if_ne X (w32 v20) rfl hE dX5_isCheap_89 rfl (fun hE => ?_) (fun hE => ?_)
  · refine e_iconst X dX5_isCheap_96 ?_
    cases hE
    exact r_zret (x := 0) X hM rfl dX5_isCheap_97
  · refine e_iconst X dX5_isCheap_92 ?_
    refine e_goto X dX5_isCheap_93 rfl ?_
    cases hE
    exact r_zret (x := 1) X hM rfl dX5_isCheap_97
theorem met_X5_isCheap (l : Launch) (G : GG) (ad : Nat → Nat) (hp0 : HP) {N : Nat} (M : RM)   {out : (Int × RM)} (hE : f_X5_isCheap N M = some out) : MR l yX5_isCheap (ws_ yX5_isCheap cX5_isCheap 2 (some .boolean)) 4 G dX5 ad hp0 [.ref (ad 40)] M (some (vI out.1)) out.2 :=
  MR.of (by decide) (Nat.le_of_ble_eq_true rfl) rfl (fun p e s m below meth c ls X hM hl => wb_X5_isCheap X hE hM hl)
def f_X5_prices_L2 (N : Nat)  (k : RM → Int → Option RM) : Nat → RM → Int → Option RM
  | 0, _, _ => none
  | n + 1, M, x1 =>
    if 8 ≤ w32 x1 then (k M x1) else (ob (sA 8 M 23 x1 0) fun M1 => jn (x1 + 1) fun v2 => f_X5_prices_L2 N  k n M1 v2)
def f_X5_prices_L31 (N : Nat)  (k : RM → Int → Int → Option RM) : Nat → RM → Int → Int → Option RM
  | 0, _, _, _ => none
  | n + 1, M, x1, x2 =>
    ob (f_X5_many M) fun v5 => if w32 (2 * v5) ≤ w32 x2 then (k M x1 x2) else (ob (f_X5_leads M x2 1) fun v6 => ob (gA 8 M 23 v6) fun v7 => ob (f_X5_costOf M x2) fun v8 => jn (v7 + v8) fun v9 => ob (f_X5_room M x2) fun v10 => jn (fun (v12 : Int) (M13 : RM) => jn (x2 + 1) fun v14 => f_X5_prices_L31 N  k n M13 v12 v14) fun kj11 => if w32 v10 = 0 then (kj11 x1 M) else (ob (f_X5_leads M x2 0) fun v15 => ob (gA 8 M 23 v15) fun v16 => if w64 v9 < w64 v16 then (ob (f_X5_leads M x2 0) fun v17 => ob (sA 8 M 23 v17 v9) fun M18 => kj11 1 M18) else (kj11 x1 M)))
def f_X5_prices_L23 (N : Nat)  (k : RM → Int → Option RM) : Nat → RM → Int → Option RM
  | 0, _, _ => none
  | n + 1, M, x1 =>
    if w32 x1 = 0 then (k M x1) else (f_X5_prices_L31 N  (fun (M19 : RM) (v20 : Int) (v21 : Int) => f_X5_prices_L23 N  k n M19 v20) N M 0 0)
def f_X5_prices (N : Nat) (M : RM)  : Option RM :=
  f_X5_prices_L2 N  (fun (M3 : RM) (v4 : Int) => f_X5_prices_L23 N  (fun (M22 : RM) (v23 : Int) => some M22) N M3 1) N M 0
theorem hd_X5_prices : yX5_prices.cls = RX5 ∧ yX5_prices.cls ≠ "java/lang/invoke/MethodHandle" ∧ yX5_prices.cls ≠ "java/lang/invoke/VarHandle" ∧ (parseMethodDescriptor yX5_prices.desc).map (fun d => d.parameters.length) = some 0 := by decide +kernel
theorem wl_X5_prices_2 {p : Program} {l : Launch} {e : Env} {s : State} {m : MethodId} {args : Array Value} {below : List Frame} {meth : Method} {c : Code} {G : GG} {ad : Nat → Nat} {hp0 : HP} (X : CX p s m args meth c cX5_prices 5 RX5 none G) {N : Nat}   {k : RM → Int → Option RM} {out : RM} : ∀ (n : Nat) (M : RM) (x1 : Int) (H : Heap) (locs : List Loc) (ls : Array Slot) (hE : f_X5_prices_L2 N  k n M x1 = some out) (hM : RW G dX5 ad hp0 M H locs) (hl : lv_has ls 5 [(0, .ref (ad 40)), (1, vI x1)]) (hk : ∀ (M : RM) (x1 : Int) (H : Heap) (locs : List Loc) (ls : Array Slot), RW G dX5 ad hp0 M H locs → lv_has ls 5 [(0, .ref (ad 40)), (1, vI x1)] → k M x1 = some out → W p l e (rmD 2) s m args below meth c H locs 0 0 (QR below G dX5 ad hp0 args s none out) (F0 m 21 ls [])), W p l e (rmD 2) s m args below meth c H locs 0 0 (QR below G dX5 ad hp0 args s none out) (F0 m 2 ls []) := by
  intro n
  induction n with
  | zero =>
    intro M x1 H locs ls hE hM hl hk
    unfold f_X5_prices_L2 at hE
    cases hE
  | succ n ih =>
    intro M x1 H locs ls hE hM hl hk
    unfold f_X5_prices_L2 at hE
    refine e_iload_n X hl 1 rfl dX5_prices_2 rfl ?_
    refine e_bipush X dX5_prices_3 (by decide) ?_
    refine e_icmp_ge X (w32 x1) 8 rfl (by decide) hE dX5_prices_5 rfl (fun hE => ?_) (fun hE => ?_)
    · exact hk M x1 _ _ _ hM (lv_sub hl [0, 1] rfl) hE
    · refine e_aload_n X hl 0 rfl dX5_prices_8 rfl ?_
      refine r_getR X hM ck_X5 40 23 rfl rfl (by decide) q3057 rfl dX5_prices_9 ?_
      refine e_iload_n X hl 1 rfl dX5_prices_12 rfl ?_
      refine e_lconst X 0 dX5_prices_13 (by decide) ?_
      refine r_last X hM 23 rfl (Nat.le_of_ble_eq_true rfl) hE dX5_prices_14 (fun M1 hE H locs hM => ?_)
      refine e_iinc X hl 1 hE (fun v2 => [(1, vI v2), (0, .ref (ad 40))]) rfl dX5_prices_15 (by decide) (fun _ => rfl) (fun v2 hE ls hl => ?_)
      refine e_goto X dX5_prices_18 rfl ?_
      exact ih M1 v2 _ _ _ hE hM (lv_sub hl [1, 0] rfl) hk
theorem wl_X5_prices_31 {p : Program} {l : Launch} {e : Env} {s : State} {m : MethodId} {args : Array Value} {below : List Frame} {meth : Method} {c : Code} {G : GG} {ad : Nat → Nat} {hp0 : HP} (X : CX p s m args meth c cX5_prices 5 RX5 none G) {N : Nat}   {k : RM → Int → Int → Option RM} {out : RM} : ∀ (n : Nat) (M : RM) (x1 : Int) (x2 : Int) (H : Heap) (locs : List Loc) (ls : Array Slot) (hE : f_X5_prices_L31 N  k n M x1 x2 = some out) (hM : RW G dX5 ad hp0 M H locs) (hl : lv_has ls 5 [(0, .ref (ad 40)), (1, vI x1), (2, vI x2)]) (hk : ∀ (M : RM) (x1 : Int) (x2 : Int) (H : Heap) (locs : List Loc) (ls : Array Slot), RW G dX5 ad hp0 M H locs → lv_has ls 5 [(0, .ref (ad 40)), (1, vI x1), (2, vI x2)] → k M x1 x2 = some out → W p l e (rmD 2) s m args below meth c H locs 0 0 (QR below G dX5 ad hp0 args s none out) (F0 m 106 ls [])), W p l e (rmD 2) s m args below meth c H locs 0 0 (QR below G dX5 ad hp0 args s none out) (F0 m 31 ls []) := by
  intro n
  induction n with
  | zero =>
    intro M x1 x2 H locs ls hE hM hl hk
    unfold f_X5_prices_L31 at hE
    cases hE
  | succ n ih =>
    intro M x1 x2 H locs ls hE hM hl hk
    unfold f_X5_prices_L31 at hE
    refine e_iload_n X hl 2 rfl dX5_prices_31 rfl ?_
    refine e_iconst X dX5_prices_32 ?_
    refine e_aload_n X hl 0 rfl dX5_prices_33 rfl ?_
    obtain ⟨v5, h, hE⟩ := ob_some hE
    refine r_callV1 X hM 40 rfl ck_X5 (rest := [vI 2, vI x2]) (met_X5_many l G ad hp0 M h) (cwV 0 X.ht (lw_V q3206 q3208 qs77 q170 q3209) rfl rfl rfl hd_X5_many (cxR (by decide) (by decide))) rfl hl.1 rfl (Nat.le_of_ble_eq_true rfl) dX5_prices_34 ⟨Nat.le_refl _, Nat.le_refl _⟩ (fun H locs hM => ?_)
    refine e_imul X dX5_prices_37 ?_
    refine e_icmp_ge X (w32 x2) (w32 (2 * v5)) rfl rfl hE dX5_prices_38 rfl (fun hE => ?_) (fun hE => ?_)
    · exact hk M x1 x2 _ _ _ hM (lv_sub hl [0, 1, 2] rfl) hE
    · refine e_aload_n X hl 0 rfl dX5_prices_41 rfl ?_
      refine r_getR X hM ck_X5 40 23 rfl rfl (by decide) q3057 rfl dX5_prices_42 ?_
      refine e_aload_n X hl 0 rfl dX5_prices_45 rfl ?_
      refine e_iload_n X hl 2 rfl dX5_prices_46 rfl ?_
      refine e_iconst X dX5_prices_47 ?_
      obtain ⟨v6, h, hE⟩ := ob_some hE
      refine r_callV1 X hM 40 rfl ck_X5 (rest := [.ref (ad 23)]) (met_X5_leads l G ad hp0 M x2 1 h) (cwV 2 X.ht (lw_V q3331 q3333 qs99 q170 q3334) rfl rfl rfl hd_X5_leads (cxR (by decide) (by decide))) rfl hl.1 rfl (Nat.le_of_ble_eq_true rfl) dX5_prices_48 ⟨Nat.le_refl _, Nat.le_refl _⟩ (fun H locs hM => ?_)
      refine r_lald X hM 23 rfl (Nat.le_of_ble_eq_true rfl) hE dX5_prices_51 (fun v7 hE => ?_)
      refine e_aload_n X hl 0 rfl dX5_prices_52 rfl ?_
      refine e_iload_n X hl 2 rfl dX5_prices_53 rfl ?_
      obtain ⟨v8, h, hE⟩ := ob_some hE
      refine r_callV1 X hM 40 rfl ck_X5 (rest := [vL v7]) (met_X5_costOf l G ad hp0 M x2 h) (cwV 1 X.ht (lw_V q3339 q3341 qs101 q170 q3342) rfl rfl rfl hd_X5_costOf (cxR (by decide) (by decide))) rfl hl.1 rfl (Nat.le_of_ble_eq_true rfl) dX5_prices_54 ⟨Nat.le_refl _, Nat.le_refl _⟩ (fun H locs hM => ?_)
      refine e_ladd X dX5_prices_57 ?_
      refine e_topl hE (fun v9 hE => ?_)
      refine e_lstore_n X hl [(3, vL v9), (0, .ref (ad 40)), (1, vI x1), (2, vI x2)] dX5_prices_58 rfl (by decide) rfl (fun ls hl => ?_)
      refine e_aload_n X hl 1 rfl dX5_prices_59 rfl ?_
      refine e_iload_n X hl 3 rfl dX5_prices_60 rfl ?_
      obtain ⟨v10, h, hE⟩ := ob_some hE
      refine r_callV1 X hM 40 rfl ck_X5 (rest := []) (met_X5_room l G ad hp0 M x2 h) (cwV 1 X.ht (lw_V q3335 q3337 qs100 q170 q3338) rfl rfl rfl hd_X5_room (cxR (by decide) (by decide))) rfl hl.1 rfl (Nat.le_of_ble_eq_true rfl) dX5_prices_61 ⟨Nat.le_refl _, Nat.le_refl _⟩ (fun H locs hM => ?_)
      obtain ⟨kj11, hkj11, hE⟩ := jn_ex hE
      have hjkj11 : ∀ (v12 : Int) (M13 : RM) (H : Heap) (locs : List Loc) (ls : Array Slot), RW G dX5 ad hp0 M13 H locs → lv_has ls 5 [(0, .ref (ad 40)), (1, vI v12), (2, vI x2)] → kj11 v12 M13 = some out → W p l e (rmD 2) s m args below meth c H locs 0 0 (QR below G dX5 ad hp0 args s none out) (F0 m 100 ls []) := by
        intro v12 M13 H locs ls hM hl hE
        subst hkj11
        refine e_iinc X hl 2 hE (fun v14 => [(2, vI v14), (0, .ref (ad 40)), (1, vI v12)]) rfl dX5_prices_100 (by decide) (fun _ => rfl) (fun v14 hE ls hl => ?_)
        refine e_goto X dX5_prices_103 rfl ?_
        exact ih M13 v12 v14 _ _ _ hE hM (lv_sub hl [1, 2, 0] rfl) hk
      refine e_if_eq X (w32 v10) rfl hE dX5_prices_64 rfl (fun hE => ?_) (fun hE => ?_)
      · exact hjkj11 x1 M _ _ _ hM (lv_sub hl [1, 2, 3] rfl) hE
      · refine e_aload_n X hl 1 rfl dX5_prices_67 rfl ?_
        refine r_getR X hM ck_X5 40 23 rfl rfl (by decide) q3057 rfl dX5_prices_68 ?_
        refine e_aload_n X hl 1 rfl dX5_prices_71 rfl ?_
        refine e_iload_n X hl 3 rfl dX5_prices_72 rfl ?_
        refine e_iconst X dX5_prices_73 ?_
        obtain ⟨v15, h, hE⟩ := ob_some hE
        refine r_callV1 X hM 40 rfl ck_X5 (rest := [.ref (ad 23)]) (met_X5_leads l G ad hp0 M x2 0 h) (cwV 2 X.ht (lw_V q3331 q3333 qs99 q170 q3334) rfl rfl rfl hd_X5_leads (cxR (by decide) (by decide))) rfl hl.1 rfl (Nat.le_of_ble_eq_true rfl) dX5_prices_74 ⟨Nat.le_refl _, Nat.le_refl _⟩ (fun H locs hM => ?_)
        refine r_lald X hM 23 rfl (Nat.le_of_ble_eq_true rfl) hE dX5_prices_77 (fun v16 hE => ?_)
        refine e_lload_n X hl 0 rfl dX5_prices_78 rfl ?_
        refine e_lcmp_gt X (w64 v16) (w64 v9) rfl rfl hE dX5_prices_79 dX5_prices_80 rfl (fun hE => ?_) (fun hE => ?_)
        · refine e_aload_n X hl 1 rfl dX5_prices_86 rfl ?_
          refine r_getR X hM ck_X5 40 23 rfl rfl (by decide) q3057 rfl dX5_prices_87 ?_
          refine e_aload_n X hl 1 rfl dX5_prices_90 rfl ?_
          refine e_iload_n X hl 3 rfl dX5_prices_91 rfl ?_
          refine e_iconst X dX5_prices_92 ?_
          obtain ⟨v17, h, hE⟩ := ob_some hE
          refine r_callV1 X hM 40 rfl ck_X5 (rest := [.ref (ad 23)]) (met_X5_leads l G ad hp0 M x2 0 h) (cwV 2 X.ht (lw_V q3331 q3333 qs99 q170 q3334) rfl rfl rfl hd_X5_leads (cxR (by decide) (by decide))) rfl hl.1 rfl (Nat.le_of_ble_eq_true rfl) dX5_prices_93 ⟨Nat.le_refl _, Nat.le_refl _⟩ (fun H locs hM => ?_)
          refine e_lload_n X hl 0 rfl dX5_prices_96 rfl ?_
          refine r_last X hM 23 rfl (Nat.le_of_ble_eq_true rfl) hE dX5_prices_97 (fun M18 hE H locs hM => ?_)
          refine e_iconst X dX5_prices_98 ?_
          refine e_istore_n X hl [(1, vI 1), (3, vL v9), (0, .ref (ad 40)), (2, vI x2)] dX5_prices_99 rfl (by decide) rfl (fun ls hl => ?_)
          exact hjkj11 1 M18 _ _ _ hM (lv_sub hl [2, 0, 3] rfl) hE
        · refine e_goto X dX5_prices_83 rfl ?_
          exact hjkj11 x1 M _ _ _ hM (lv_sub hl [1, 2, 3] rfl) hE
theorem wl_X5_prices_23 {p : Program} {l : Launch} {e : Env} {s : State} {m : MethodId} {args : Array Value} {below : List Frame} {meth : Method} {c : Code} {G : GG} {ad : Nat → Nat} {hp0 : HP} (X : CX p s m args meth c cX5_prices 5 RX5 none G) {N : Nat}   {k : RM → Int → Option RM} {out : RM} : ∀ (n : Nat) (M : RM) (x1 : Int) (H : Heap) (locs : List Loc) (ls : Array Slot) (hE : f_X5_prices_L23 N  k n M x1 = some out) (hM : RW G dX5 ad hp0 M H locs) (hl : lv_has ls 5 [(0, .ref (ad 40)), (1, vI x1)]) (hk : ∀ (M : RM) (x1 : Int) (H : Heap) (locs : List Loc) (ls : Array Slot), RW G dX5 ad hp0 M H locs → lv_has ls 5 [(0, .ref (ad 40)), (1, vI x1)] → k M x1 = some out → W p l e (rmD 2) s m args below meth c H locs 0 0 (QR below G dX5 ad hp0 args s none out) (F0 m 109 ls [])), W p l e (rmD 2) s m args below meth c H locs 0 0 (QR below G dX5 ad hp0 args s none out) (F0 m 23 ls []) := by
  intro n
  induction n with
  | zero =>
    intro M x1 H locs ls hE hM hl hk
    unfold f_X5_prices_L23 at hE
    cases hE
  | succ n ih =>
    intro M x1 H locs ls hE hM hl hk
    unfold f_X5_prices_L23 at hE
    refine e_iload_n X hl 1 rfl dX5_prices_23 rfl ?_
    refine e_if_eq X (w32 x1) rfl hE dX5_prices_24 rfl (fun hE => ?_) (fun hE => ?_)
    · exact hk M x1 _ _ _ hM (lv_sub hl [0, 1] rfl) hE
    · refine e_iconst X dX5_prices_27 ?_
      refine e_istore_n X hl [(1, vI 0), (0, .ref (ad 40))] dX5_prices_28 rfl (by decide) rfl (fun ls hl => ?_)
      refine e_iconst X dX5_prices_29 ?_
      refine e_istore_n X hl [(2, vI 0), (1, vI 0), (0, .ref (ad 40))] dX5_prices_30 rfl (by decide) rfl (fun ls hl => ?_)
      refine wl_X5_prices_31 X _ M 0 0 _ _ _ hE hM (lv_sub hl [2, 1, 0] rfl) (fun M19 v20 v21 H locs ls hM hl hE => ?_)
      refine e_goto X dX5_prices_106 rfl ?_
      exact ih M19 v20 _ _ _ hE hM (lv_sub hl [0, 1] rfl) hk
theorem wb_X5_prices {p : Program} {l : Launch} {e : Env} {s : State} {m : MethodId} {args : Array Value} {below : List Frame} {meth : Method} {c : Code} {G : GG} {ad : Nat → Nat} {hp0 : HP} (X : CX p s m args meth c cX5_prices 5 RX5 none G) {N : Nat} {M : RM}   {out : RM} (hE : f_X5_prices N M = some out) {H : Heap} {locs : List Loc} {ls : Array Slot} (hM : RW G dX5 ad hp0 M H locs) (hl : lv_has ls 5 [(0, .ref (ad 40))]) : W p l e (rmD 2) s m args below meth c H locs 0 0 (QR below G dX5 ad hp0 args s none out) (F0 m 0 ls []) := by
  unfold f_X5_prices at hE
  refine e_iconst X dX5_prices_0 ?_
  refine e_istore_n X hl [(1, vI 0), (0, .ref (ad 40))] dX5_prices_1 rfl (by decide) rfl (fun ls hl => ?_)
  refine wl_X5_prices_2 X _ M 0 _ _ _ hE hM (lv_sub hl [1, 0] rfl) (fun M3 v4 H locs ls hM hl hE => ?_)
  refine e_iconst X dX5_prices_21 ?_
  refine e_istore_n X hl [(1, vI 1), (0, .ref (ad 40))] dX5_prices_22 rfl (by decide) rfl (fun ls hl => ?_)
  refine wl_X5_prices_23 X _ M3 1 _ _ _ hE hM (lv_sub hl [1, 0] rfl) (fun M22 v23 H locs ls hM hl hE => ?_)
  cases hE
  exact r_vret X hM dX5_prices_109
theorem met_X5_prices (l : Launch) (G : GG) (ad : Nat → Nat) (hp0 : HP) {N : Nat} (M : RM)   {out : RM} (hE : f_X5_prices N M = some out) : MR l yX5_prices (ws_ yX5_prices cX5_prices 5 none) 2 G dX5 ad hp0 [.ref (ad 40)] M none out :=
  MR.of (by decide) (Nat.le_of_ble_eq_true rfl) rfl (fun p e s m below meth c ls X hM hl => wb_X5_prices X hE hM hl)
def f_X5_isLevel (M0 : RM) (a1 : Int) : Option Int :=
  ob (f_X5_room M0 a1) fun v1 => if w32 v1 ≤ 0 then (some 0) else (ob (f_X5_leads M0 a1 1) fun v2 => ob (gA 8 M0 23 v2) fun v3 => ob (f_X5_costOf M0 a1) fun v4 => ob (f_X5_leads M0 a1 0) fun v5 => ob (gA 8 M0 23 v5) fun v6 => if ¬ w64 (v3 + v4) = w64 v6 then (some 0) else (some 1))
theorem hd_X5_isLevel : yX5_isLevel.cls = RX5 ∧ yX5_isLevel.cls ≠ "java/lang/invoke/MethodHandle" ∧ yX5_isLevel.cls ≠ "java/lang/invoke/VarHandle" ∧ (parseMethodDescriptor yX5_isLevel.desc).map (fun d => d.parameters.length) = some 1 := by decide +kernel
theorem wb_X5_isLevel {p : Program} {l : Launch} {e : Env} {s : State} {m : MethodId} {args : Array Value} {below : List Frame} {meth : Method} {c : Code} {G : GG} {ad : Nat → Nat} {hp0 : HP} {M0 : RM} (X : CX p s m args meth c cX5_isLevel 2 RX5 (some .boolean) G) {a1 : Int}   {out : Int} (hE : f_X5_isLevel M0 a1 = some out) {H : Heap} {locs : List Loc} {ls : Array Slot} (hM : RW G dX5 ad hp0 M0 H locs) (hl : lv_has ls 2 [(0, .ref (ad 40)), (1, vI a1)]) : W p l e (rmD 2) s m args below meth c H locs 0 0 (QR below G dX5 ad hp0 args s (some (vI out)) M0) (F0 m 0 ls []) := by
  unfold f_X5_isLevel at hE
  refine e_aload_n X hl 0 rfl dX5_isLevel_0 rfl ?_
  refine e_iload_n X hl 1 rfl dX5_isLevel_1 rfl ?_
  obtain ⟨v1, h, hE⟩ := ob_some hE
  refine r_callV1 X hM 40 rfl ck_X5 (rest := []) (met_X5_room l G ad hp0 M0 a1 h) (cwV 1 X.ht (lw_V q3335 q3337 qs100 q170 q3338) rfl rfl rfl hd_X5_room (cxR (by decide) (by decide))) rfl hl.1 rfl (Nat.le_of_ble_eq_true rfl) dX5_isLevel_2 ⟨Nat.le_refl _, Nat.le_refl _⟩ (fun H locs hM => ?_)
  refine e_if_le X (w32 v1) rfl hE dX5_isLevel_5 rfl (fun hE => ?_) (fun hE => ?_)
  · refine e_iconst X dX5_isLevel_44 ?_
    cases hE
    exact r_zret (x := 0) X hM rfl dX5_isLevel_45
  · refine e_aload_n X hl 0 rfl dX5_isLevel_8 rfl ?_
    refine r_getR X hM ck_X5 40 23 rfl rfl (by decide) q3057 rfl dX5_isLevel_9 ?_
    refine e_aload_n X hl 0 rfl dX5_isLevel_12 rfl ?_
    refine e_iload_n X hl 1 rfl dX5_isLevel_13 rfl ?_
    refine e_iconst X dX5_isLevel_14 ?_
    obtain ⟨v2, h, hE⟩ := ob_some hE
    refine r_callV1 X hM 40 rfl ck_X5 (rest := [.ref (ad 23)]) (met_X5_leads l G ad hp0 M0 a1 1 h) (cwV 2 X.ht (lw_V q3331 q3333 qs99 q170 q3334) rfl rfl rfl hd_X5_leads (cxR (by decide) (by decide))) rfl hl.1 rfl (Nat.le_of_ble_eq_true rfl) dX5_isLevel_15 ⟨Nat.le_refl _, Nat.le_refl _⟩ (fun H locs hM => ?_)
    refine r_lald X hM 23 rfl (Nat.le_of_ble_eq_true rfl) hE dX5_isLevel_18 (fun v3 hE => ?_)
    refine e_aload_n X hl 0 rfl dX5_isLevel_19 rfl ?_
    refine e_iload_n X hl 1 rfl dX5_isLevel_20 rfl ?_
    obtain ⟨v4, h, hE⟩ := ob_some hE
    refine r_callV1 X hM 40 rfl ck_X5 (rest := [vL v3]) (met_X5_costOf l G ad hp0 M0 a1 h) (cwV 1 X.ht (lw_V q3339 q3341 qs101 q170 q3342) rfl rfl rfl hd_X5_costOf (cxR (by decide) (by decide))) rfl hl.1 rfl (Nat.le_of_ble_eq_true rfl) dX5_isLevel_21 ⟨Nat.le_refl _, Nat.le_refl _⟩ (fun H locs hM => ?_)
    refine e_ladd X dX5_isLevel_24 ?_
    refine e_aload_n X hl 0 rfl dX5_isLevel_25 rfl ?_
    refine r_getR X hM ck_X5 40 23 rfl rfl (by decide) q3057 rfl dX5_isLevel_26 ?_
    refine e_aload_n X hl 0 rfl dX5_isLevel_29 rfl ?_
    refine e_iload_n X hl 1 rfl dX5_isLevel_30 rfl ?_
    refine e_iconst X dX5_isLevel_31 ?_
    obtain ⟨v5, h, hE⟩ := ob_some hE
    refine r_callV1 X hM 40 rfl ck_X5 (rest := [.ref (ad 23), vL (v3 + v4)]) (met_X5_leads l G ad hp0 M0 a1 0 h) (cwV 2 X.ht (lw_V q3331 q3333 qs99 q170 q3334) rfl rfl rfl hd_X5_leads (cxR (by decide) (by decide))) rfl hl.1 rfl (Nat.le_of_ble_eq_true rfl) dX5_isLevel_32 ⟨Nat.le_refl _, Nat.le_refl _⟩ (fun H locs hM => ?_)
    refine r_lald X hM 23 rfl (Nat.le_of_ble_eq_true rfl) hE dX5_isLevel_35 (fun v6 hE => ?_)
    refine e_lcmp_ne X (w64 (v3 + v4)) (w64 v6) rfl rfl hE dX5_isLevel_36 dX5_isLevel_37 rfl (fun hE => ?_) (fun hE => ?_)
    · refine e_iconst X dX5_isLevel_44 ?_
      cases hE
      exact r_zret (x := 0) X hM rfl dX5_isLevel_45
    · refine e_iconst X dX5_isLevel_40 ?_
      refine e_goto X dX5_isLevel_41 rfl ?_
      cases hE
      exact r_zret (x := 1) X hM rfl dX5_isLevel_45
theorem met_X5_isLevel (l : Launch) (G : GG) (ad : Nat → Nat) (hp0 : HP) (M0 : RM) (a1 : Int)  {out : Int} (hE : f_X5_isLevel M0 a1 = some out) : MR l yX5_isLevel (ws_ yX5_isLevel cX5_isLevel 2 (some .boolean)) 2 G dX5 ad hp0 [.ref (ad 40), vI a1] M0 (some (vI out)) M0 :=
  MR.of (by decide) (Nat.le_of_ble_eq_true rfl) rfl (fun p e s m below meth c ls X hM hl => wb_X5_isLevel X hE hM hl)
def f_X5_turns_L2 (N : Nat) (b1 : Int) (k : RM → Int → Option (Int × RM)) : Nat → RM → Int → Option (Int × RM)
  | 0, _, _ => none
  | n + 1, M, x2 =>
    if 8 ≤ w32 x2 then (k M x2) else (ob (sZ 8 M 18 x2 0) fun M1 => jn (x2 + 1) fun v2 => f_X5_turns_L2 N b1 k n M1 v2)
def f_X5_turns_L59 (N : Nat) (b1 : Int) (k : RM → Int → Int → Option (Int × RM)) : Nat → RM → Int → Int → Option (Int × RM)
  | 0, _, _, _ => none
  | n + 1, M, x2, x3 =>
    ob (f_X5_many M) fun v10 => if w32 (2 * v10) ≤ w32 x3 then (k M x2 x3) else (ob (f_X5_isLevel M x3) fun v11 => jn (fun (v13 : Int) (M14 : RM) => jn (x3 + 1) fun v15 => f_X5_turns_L59 N b1 k n M14 v13 v15) fun kj12 => if w32 v11 = 0 then (kj12 x2 M) else (ob (f_X5_leads M x3 1) fun v16 => ob (gA 8 M 18 v16) fun v17 => if w32 v17 = 0 then (kj12 x2 M) else (ob (f_X5_leads M x3 0) fun v18 => ob (gA 8 M 18 v18) fun v19 => if w32 v19 = 0 then (ob (f_X5_leads M x3 0) fun v20 => ob (sZ 8 M 18 v20 1) fun M21 => ob (f_X5_leads M21 x3 0) fun v22 => ob (sA 8 M21 17 v22 x3) fun M23 => kj12 1 M23) else (kj12 x2 M))))
def f_X5_turns_L34 (N : Nat) (b1 : Int) (k : RM → Int → Option (Int × RM)) : Nat → RM → Int → Option (Int × RM)
  | 0, _, _ => none
  | n + 1, M, x2 =>
    if w32 x2 = 0 then (k M x2) else (ob (f_X5_to M b1) fun v7 => ob (gA 8 M 18 v7) fun v8 => if ¬ w32 v8 = 0 then (k M x2) else (jn ((2 * b1) + 2) fun v9 => f_X5_turns_L59 N b1 (fun (M24 : RM) (v25 : Int) (v26 : Int) => f_X5_turns_L34 N b1 k n M24 v25) N M 0 v9))
def f_X5_turns_L187 (N : Nat) (M : RM) (b1 : Int) (k : Int → Int → Option (Int × RM)) : Nat → Int → Int → Option (Int × RM)
  | 0, _, _ => none
  | n + 1, x3, x4 =>
    ob (f_X5_from M b1) fun v34 => if w32 x4 = w32 v34 then (k x3 x4) else (ob (gA 8 M 17 x4) fun v35 => ob (f_X5_room M v35) fun v36 => jn (fun (v38 : Int) => ob (gA 8 M 17 x4) fun v39 => ob (f_X5_leads M v39 1) fun v40 => f_X5_turns_L187 N M b1 k n v38 v40) fun kj37 => if w32 x3 ≤ w32 v36 then (kj37 x3) else (ob (gA 8 M 17 x4) fun v41 => ob (f_X5_room M v41) fun v42 => kj37 v42))
def f_X5_turns_L252 (N : Nat) (b1 : Int) (b3 : Int) (k : RM → Int → Option (Int × RM)) : Nat → RM → Int → Option (Int × RM)
  | 0, _, _ => none
  | n + 1, M, x4 =>
    ob (f_X5_from M b1) fun v46 => if w32 x4 = w32 v46 then (k M x4) else (ob (gA 8 M 17 x4) fun v47 => ob (f_X5_goes M v47 b3) fun M48 => ob (gA 8 M48 17 x4) fun v49 => ob (f_X5_leads M48 v49 1) fun v50 => f_X5_turns_L252 N b1 b3 k n M48 v50)
def f_X5_turns (N : Nat) (M : RM) (a1 : Int) : Option (Int × RM) :=
  f_X5_turns_L2 N a1 (fun (M3 : RM) (v4 : Int) => ob (f_X5_from M3 a1) fun v5 => ob (sZ 8 M3 18 v5 1) fun M6 => f_X5_turns_L34 N a1 (fun (M27 : RM) (v28 : Int) => ob (f_X5_to M27 a1) fun v29 => ob (gA 8 M27 18 v29) fun v30 => if w32 v30 = 0 then (some (0, M27)) else (ob (f_X5_isLevel M27 ((2 * a1) + 1)) fun v31 => if ¬ w32 v31 = 0 then (ob (f_X5_room M27 ((2 * a1) + 1)) fun v32 => ob (f_X5_to M27 a1) fun v33 => f_X5_turns_L187 N M27 a1 (fun (v43 : Int) (v44 : Int) => ob (f_X5_to M27 a1) fun v45 => f_X5_turns_L252 N a1 v43 (fun (M51 : RM) (v52 : Int) => ob (f_X5_goes M51 ((2 * a1) + 1) v43) fun M53 => some (1, M53)) N M27 v45) N v32 v33) else (some (0, M27)))) N M6 1) N M 0
theorem hd_X5_turns : yX5_turns.cls = RX5 ∧ yX5_turns.cls ≠ "java/lang/invoke/MethodHandle" ∧ yX5_turns.cls ≠ "java/lang/invoke/VarHandle" ∧ (parseMethodDescriptor yX5_turns.desc).map (fun d => d.parameters.length) = some 1 := by decide +kernel
theorem wl_X5_turns_2 {p : Program} {l : Launch} {e : Env} {s : State} {m : MethodId} {args : Array Value} {below : List Frame} {meth : Method} {c : Code} {G : GG} {ad : Nat → Nat} {hp0 : HP} (X : CX p s m args meth c cX5_turns 5 RX5 (some .boolean) G) {N : Nat} {b1 : Int}  {k : RM → Int → Option (Int × RM)} {out : (Int × RM)} : ∀ (n : Nat) (M : RM) (x2 : Int) (H : Heap) (locs : List Loc) (ls : Array Slot) (hE : f_X5_turns_L2 N b1 k n M x2 = some out) (hM : RW G dX5 ad hp0 M H locs) (hl : lv_has ls 5 [(0, .ref (ad 40)), (1, vI b1), (2, vI x2)]) (hk : ∀ (M : RM) (x2 : Int) (H : Heap) (locs : List Loc) (ls : Array Slot), RW G dX5 ad hp0 M H locs → lv_has ls 5 [(0, .ref (ad 40)), (1, vI b1), (2, vI x2)] → k M x2 = some out → W p l e (rmD 3) s m args below meth c H locs 0 0 (QR below G dX5 ad hp0 args s (some (vI out.1)) out.2) (F0 m 21 ls [])), W p l e (rmD 3) s m args below meth c H locs 0 0 (QR below G dX5 ad hp0 args s (some (vI out.1)) out.2) (F0 m 2 ls []) := by
  intro n
  induction n with
  | zero =>
    intro M x2 H locs ls hE hM hl hk
    unfold f_X5_turns_L2 at hE
    cases hE
  | succ n ih =>
    intro M x2 H locs ls hE hM hl hk
    unfold f_X5_turns_L2 at hE
    refine e_iload_n X hl 2 rfl dX5_turns_2 rfl ?_
    refine e_bipush X dX5_turns_3 (by decide) ?_
    refine e_icmp_ge X (w32 x2) 8 rfl (by decide) hE dX5_turns_5 rfl (fun hE => ?_) (fun hE => ?_)
    · exact hk M x2 _ _ _ hM (lv_sub hl [0, 1, 2] rfl) hE
    · refine e_aload_n X hl 0 rfl dX5_turns_8 rfl ?_
      refine r_getR X hM ck_X5 40 18 rfl rfl (by decide) q3052 rfl dX5_turns_9 ?_
      refine e_iload_n X hl 2 rfl dX5_turns_12 rfl ?_
      refine e_iconst X dX5_turns_13 ?_
      refine r_zast X hM 18 rfl (Nat.le_of_ble_eq_true rfl) hE dX5_turns_14 (fun M1 hE H locs hM => ?_)
      refine e_iinc X hl 2 hE (fun v2 => [(2, vI v2), (0, .ref (ad 40)), (1, vI b1)]) rfl dX5_turns_15 (by decide) (fun _ => rfl) (fun v2 hE ls hl => ?_)
      refine e_goto X dX5_turns_18 rfl ?_
      exact ih M1 v2 _ _ _ hE hM (lv_sub hl [1, 2, 0] rfl) hk
theorem wl_X5_turns_59 {p : Program} {l : Launch} {e : Env} {s : State} {m : MethodId} {args : Array Value} {below : List Frame} {meth : Method} {c : Code} {G : GG} {ad : Nat → Nat} {hp0 : HP} (X : CX p s m args meth c cX5_turns 5 RX5 (some .boolean) G) {N : Nat} {b1 : Int}  {k : RM → Int → Int → Option (Int × RM)} {out : (Int × RM)} : ∀ (n : Nat) (M : RM) (x2 : Int) (x3 : Int) (H : Heap) (locs : List Loc) (ls : Array Slot) (hE : f_X5_turns_L59 N b1 k n M x2 x3 = some out) (hM : RW G dX5 ad hp0 M H locs) (hl : lv_has ls 5 [(0, .ref (ad 40)), (1, vI b1), (2, vI x2), (3, vI x3)]) (hk : ∀ (M : RM) (x2 : Int) (x3 : Int) (H : Heap) (locs : List Loc) (ls : Array Slot), RW G dX5 ad hp0 M H locs → lv_has ls 5 [(0, .ref (ad 40)), (1, vI b1), (2, vI x2), (3, vI x3)] → k M x2 x3 = some out → W p l e (rmD 3) s m args below meth c H locs 0 0 (QR below G dX5 ad hp0 args s (some (vI out.1)) out.2) (F0 m 140 ls [])), W p l e (rmD 3) s m args below meth c H locs 0 0 (QR below G dX5 ad hp0 args s (some (vI out.1)) out.2) (F0 m 59 ls []) := by
  intro n
  induction n with
  | zero =>
    intro M x2 x3 H locs ls hE hM hl hk
    unfold f_X5_turns_L59 at hE
    cases hE
  | succ n ih =>
    intro M x2 x3 H locs ls hE hM hl hk
    unfold f_X5_turns_L59 at hE
    refine e_iload_n X hl 3 rfl dX5_turns_59 rfl ?_
    refine e_iconst X dX5_turns_60 ?_
    refine e_aload_n X hl 0 rfl dX5_turns_61 rfl ?_
    obtain ⟨v10, h, hE⟩ := ob_some hE
    refine r_callV1 X hM 40 rfl ck_X5 (rest := [vI 2, vI x3]) (met_X5_many l G ad hp0 M h) (cwV 0 X.ht (lw_V q3206 q3208 qs77 q170 q3209) rfl rfl rfl hd_X5_many (cxR (by decide) (by decide))) rfl hl.1 rfl (Nat.le_of_ble_eq_true rfl) dX5_turns_62 ⟨Nat.le_refl _, Nat.le_refl _⟩ (fun H locs hM => ?_)
    refine e_imul X dX5_turns_65 ?_
    refine e_icmp_ge X (w32 x3) (w32 (2 * v10)) rfl rfl hE dX5_turns_66 rfl (fun hE => ?_) (fun hE => ?_)
    · exact hk M x2 x3 _ _ _ hM (lv_sub hl [0, 1, 2, 3] rfl) hE
    · refine e_aload_n X hl 0 rfl dX5_turns_69 rfl ?_
      refine e_iload_n X hl 3 rfl dX5_turns_70 rfl ?_
      obtain ⟨v11, h, hE⟩ := ob_some hE
      refine r_callV1 X hM 40 rfl ck_X5 (rest := []) (met_X5_isLevel l G ad hp0 M x3 h) (cwV 1 X.ht (lw_V q3359 q3361 qs106 q170 q3362) rfl rfl rfl hd_X5_isLevel (cxR (by decide) (by decide))) rfl hl.1 rfl (Nat.le_of_ble_eq_true rfl) dX5_turns_71 ⟨Nat.le_refl _, Nat.le_refl _⟩ (fun H locs hM => ?_)
      obtain ⟨kj12, hkj12, hE⟩ := jn_ex hE
      have hjkj12 : ∀ (v13 : Int) (M14 : RM) (H : Heap) (locs : List Loc) (ls : Array Slot), RW G dX5 ad hp0 M14 H locs → lv_has ls 5 [(0, .ref (ad 40)), (1, vI b1), (2, vI v13), (3, vI x3)] → kj12 v13 M14 = some out → W p l e (rmD 3) s m args below meth c H locs 0 0 (QR below G dX5 ad hp0 args s (some (vI out.1)) out.2) (F0 m 134 ls []) := by
        intro v13 M14 H locs ls hM hl hE
        subst hkj12
        refine e_iinc X hl 3 hE (fun v15 => [(3, vI v15), (0, .ref (ad 40)), (1, vI b1), (2, vI v13)]) rfl dX5_turns_134 (by decide) (fun _ => rfl) (fun v15 hE ls hl => ?_)
        refine e_goto X dX5_turns_137 rfl ?_
        exact ih M14 v13 v15 _ _ _ hE hM (lv_sub hl [1, 2, 3, 0] rfl) hk
      refine e_if_eq X (w32 v11) rfl hE dX5_turns_74 rfl (fun hE => ?_) (fun hE => ?_)
      · exact hjkj12 x2 M _ _ _ hM (lv_sub hl [0, 1, 2, 3] rfl) hE
      · refine e_aload_n X hl 0 rfl dX5_turns_77 rfl ?_
        refine r_getR X hM ck_X5 40 18 rfl rfl (by decide) q3052 rfl dX5_turns_78 ?_
        refine e_aload_n X hl 0 rfl dX5_turns_81 rfl ?_
        refine e_iload_n X hl 3 rfl dX5_turns_82 rfl ?_
        refine e_iconst X dX5_turns_83 ?_
        obtain ⟨v16, h, hE⟩ := ob_some hE
        refine r_callV1 X hM 40 rfl ck_X5 (rest := [.ref (ad 18)]) (met_X5_leads l G ad hp0 M x3 1 h) (cwV 2 X.ht (lw_V q3331 q3333 qs99 q170 q3334) rfl rfl rfl hd_X5_leads (cxR (by decide) (by decide))) rfl hl.1 rfl (Nat.le_of_ble_eq_true rfl) dX5_turns_84 ⟨Nat.le_refl _, Nat.le_refl _⟩ (fun H locs hM => ?_)
        refine r_zald X hM 18 rfl (Nat.le_of_ble_eq_true rfl) hE dX5_turns_87 (fun v17 hE => ?_)
        refine e_if_eq X (w32 v17) rfl hE dX5_turns_88 rfl (fun hE => ?_) (fun hE => ?_)
        · exact hjkj12 x2 M _ _ _ hM (lv_sub hl [0, 1, 2, 3] rfl) hE
        · refine e_aload_n X hl 0 rfl dX5_turns_91 rfl ?_
          refine r_getR X hM ck_X5 40 18 rfl rfl (by decide) q3052 rfl dX5_turns_92 ?_
          refine e_aload_n X hl 0 rfl dX5_turns_95 rfl ?_
          refine e_iload_n X hl 3 rfl dX5_turns_96 rfl ?_
          refine e_iconst X dX5_turns_97 ?_
          obtain ⟨v18, h, hE⟩ := ob_some hE
          refine r_callV1 X hM 40 rfl ck_X5 (rest := [.ref (ad 18)]) (met_X5_leads l G ad hp0 M x3 0 h) (cwV 2 X.ht (lw_V q3331 q3333 qs99 q170 q3334) rfl rfl rfl hd_X5_leads (cxR (by decide) (by decide))) rfl hl.1 rfl (Nat.le_of_ble_eq_true rfl) dX5_turns_98 ⟨Nat.le_refl _, Nat.le_refl _⟩ (fun H locs hM => ?_)
          refine r_zald X hM 18 rfl (Nat.le_of_ble_eq_true rfl) hE dX5_turns_101 (fun v19 hE => ?_)
          refine e_if_eq X (w32 v19) rfl hE dX5_turns_102 rfl (fun hE => ?_) (fun hE => ?_)
          · refine e_aload_n X hl 0 rfl dX5_turns_108 rfl ?_
            refine r_getR X hM ck_X5 40 18 rfl rfl (by decide) q3052 rfl dX5_turns_109 ?_
            refine e_aload_n X hl 0 rfl dX5_turns_112 rfl ?_
            refine e_iload_n X hl 3 rfl dX5_turns_113 rfl ?_
            refine e_iconst X dX5_turns_114 ?_
            obtain ⟨v20, h, hE⟩ := ob_some hE
            refine r_callV1 X hM 40 rfl ck_X5 (rest := [.ref (ad 18)]) (met_X5_leads l G ad hp0 M x3 0 h) (cwV 2 X.ht (lw_V q3331 q3333 qs99 q170 q3334) rfl rfl rfl hd_X5_leads (cxR (by decide) (by decide))) rfl hl.1 rfl (Nat.le_of_ble_eq_true rfl) dX5_turns_115 ⟨Nat.le_refl _, Nat.le_refl _⟩ (fun H locs hM => ?_)
            refine e_iconst X dX5_turns_118 ?_
            refine r_zast X hM 18 rfl (Nat.le_of_ble_eq_true rfl) hE dX5_turns_119 (fun M21 hE H locs hM => ?_)
            refine e_aload_n X hl 0 rfl dX5_turns_120 rfl ?_
            refine r_getR X hM ck_X5 40 17 rfl rfl (by decide) q3051 rfl dX5_turns_121 ?_
            refine e_aload_n X hl 0 rfl dX5_turns_124 rfl ?_
            refine e_iload_n X hl 3 rfl dX5_turns_125 rfl ?_
            refine e_iconst X dX5_turns_126 ?_
            obtain ⟨v22, h, hE⟩ := ob_some hE
            refine r_callV1 X hM 40 rfl ck_X5 (rest := [.ref (ad 17)]) (met_X5_leads l G ad hp0 M21 x3 0 h) (cwV 2 X.ht (lw_V q3331 q3333 qs99 q170 q3334) rfl rfl rfl hd_X5_leads (cxR (by decide) (by decide))) rfl hl.1 rfl (Nat.le_of_ble_eq_true rfl) dX5_turns_127 ⟨Nat.le_refl _, Nat.le_refl _⟩ (fun H locs hM => ?_)
            refine e_iload_n X hl 3 rfl dX5_turns_130 rfl ?_
            refine r_iast X hM 17 rfl (Nat.le_of_ble_eq_true rfl) hE dX5_turns_131 (fun M23 hE H locs hM => ?_)
            refine e_iconst X dX5_turns_132 ?_
            refine e_istore_n X hl [(2, vI 1), (0, .ref (ad 40)), (1, vI b1), (3, vI x3)] dX5_turns_133 rfl (by decide) rfl (fun ls hl => ?_)
            exact hjkj12 1 M23 _ _ _ hM (lv_sub hl [1, 2, 0, 3] rfl) hE
          · refine e_goto X dX5_turns_105 rfl ?_
            exact hjkj12 x2 M _ _ _ hM (lv_sub hl [0, 1, 2, 3] rfl) hE
theorem wl_X5_turns_34 {p : Program} {l : Launch} {e : Env} {s : State} {m : MethodId} {args : Array Value} {below : List Frame} {meth : Method} {c : Code} {G : GG} {ad : Nat → Nat} {hp0 : HP} (X : CX p s m args meth c cX5_turns 5 RX5 (some .boolean) G) {N : Nat} {b1 : Int}  {k : RM → Int → Option (Int × RM)} {out : (Int × RM)} : ∀ (n : Nat) (M : RM) (x2 : Int) (H : Heap) (locs : List Loc) (ls : Array Slot) (hE : f_X5_turns_L34 N b1 k n M x2 = some out) (hM : RW G dX5 ad hp0 M H locs) (hl : lv_has ls 5 [(0, .ref (ad 40)), (1, vI b1), (2, vI x2)]) (hk : ∀ (M : RM) (x2 : Int) (H : Heap) (locs : List Loc) (ls : Array Slot), RW G dX5 ad hp0 M H locs → lv_has ls 5 [(0, .ref (ad 40)), (1, vI b1), (2, vI x2)] → k M x2 = some out → W p l e (rmD 3) s m args below meth c H locs 0 0 (QR below G dX5 ad hp0 args s (some (vI out.1)) out.2) (F0 m 143 ls [])), W p l e (rmD 3) s m args below meth c H locs 0 0 (QR below G dX5 ad hp0 args s (some (vI out.1)) out.2) (F0 m 34 ls []) := by
  intro n
  induction n with
  | zero =>
    intro M x2 H locs ls hE hM hl hk
    unfold f_X5_turns_L34 at hE
    cases hE
  | succ n ih =>
    intro M x2 H locs ls hE hM hl hk
    unfold f_X5_turns_L34 at hE
    refine e_iload_n X hl 2 rfl dX5_turns_34 rfl ?_
    refine e_if_eq X (w32 x2) rfl hE dX5_turns_35 rfl (fun hE => ?_) (fun hE => ?_)
    · exact hk M x2 _ _ _ hM (lv_sub hl [0, 1, 2] rfl) hE
    · refine e_aload_n X hl 0 rfl dX5_turns_38 rfl ?_
      refine r_getR X hM ck_X5 40 18 rfl rfl (by decide) q3052 rfl dX5_turns_39 ?_
      refine e_aload_n X hl 0 rfl dX5_turns_42 rfl ?_
      refine e_iload_n X hl 1 rfl dX5_turns_43 rfl ?_
      obtain ⟨v7, h, hE⟩ := ob_some hE
      refine r_callV1 X hM 40 rfl ck_X5 (rest := [.ref (ad 18)]) (met_X5_to l G ad hp0 M b1 h) (cwV 1 X.ht (lw_V q3226 q3228 qs81 q170 q3229) rfl rfl rfl hd_X5_to (cxR (by decide) (by decide))) rfl hl.1 rfl (Nat.le_of_ble_eq_true rfl) dX5_turns_44 ⟨Nat.le_refl _, Nat.le_refl _⟩ (fun H locs hM => ?_)
      refine r_zald X hM 18 rfl (Nat.le_of_ble_eq_true rfl) hE dX5_turns_47 (fun v8 hE => ?_)
      refine e_if_ne X (w32 v8) rfl hE dX5_turns_48 rfl (fun hE => ?_) (fun hE => ?_)
      · exact hk M x2 _ _ _ hM (lv_sub hl [0, 1, 2] rfl) hE
      · refine e_iconst X dX5_turns_51 ?_
        refine e_istore_n X hl [(2, vI 0), (0, .ref (ad 40)), (1, vI b1)] dX5_turns_52 rfl (by decide) rfl (fun ls hl => ?_)
        refine e_iconst X dX5_turns_53 ?_
        refine e_iload_n X hl 2 rfl dX5_turns_54 rfl ?_
        refine e_imul X dX5_turns_55 ?_
        refine e_iconst X dX5_turns_56 ?_
        refine e_iadd X dX5_turns_57 ?_
        refine e_top hE (fun v9 hE => ?_)
        refine e_istore_n X hl [(3, vI v9), (2, vI 0), (0, .ref (ad 40)), (1, vI b1)] dX5_turns_58 rfl (by decide) rfl (fun ls hl => ?_)
        refine wl_X5_turns_59 X _ M 0 v9 _ _ _ hE hM (lv_sub hl [2, 3, 1, 0] rfl) (fun M24 v25 v26 H locs ls hM hl hE => ?_)
        refine e_goto X dX5_turns_140 rfl ?_
        exact ih M24 v25 _ _ _ hE hM (lv_sub hl [0, 1, 2] rfl) hk
theorem wl_X5_turns_187 {p : Program} {l : Launch} {e : Env} {s : State} {m : MethodId} {args : Array Value} {below : List Frame} {meth : Method} {c : Code} {G : GG} {ad : Nat → Nat} {hp0 : HP} (X : CX p s m args meth c cX5_turns 5 RX5 (some .boolean) G) {N : Nat} {M : RM} {b1 : Int}  {k : Int → Int → Option (Int × RM)} {out : (Int × RM)} : ∀ (n : Nat) (x3 : Int) (x4 : Int) (H : Heap) (locs : List Loc) (ls : Array Slot) (hE : f_X5_turns_L187 N M b1 k n x3 x4 = some out) (hM : RW G dX5 ad hp0 M H locs) (hl : lv_has ls 5 [(0, .ref (ad 40)), (1, vI b1), (3, vI x3), (4, vI x4)]) (hk : ∀ (x3 : Int) (x4 : Int) (H : Heap) (locs : List Loc) (ls : Array Slot), RW G dX5 ad hp0 M H locs → lv_has ls 5 [(0, .ref (ad 40)), (1, vI b1), (3, vI x3), (4, vI x4)] → k x3 x4 = some out → W p l e (rmD 3) s m args below meth c H locs 0 0 (QR below G dX5 ad hp0 args s (some (vI out.1)) out.2) (F0 m 245 ls [])), W p l e (rmD 3) s m args below meth c H locs 0 0 (QR below G dX5 ad hp0 args s (some (vI out.1)) out.2) (F0 m 187 ls []) := by
  intro n
  induction n with
  | zero =>
    intro x3 x4 H locs ls hE hM hl hk
    unfold f_X5_turns_L187 at hE
    cases hE
  | succ n ih =>
    intro x3 x4 H locs ls hE hM hl hk
    unfold f_X5_turns_L187 at hE
    refine e_iload X hl 3 rfl dX5_turns_187 ?_
    refine e_aload_n X hl 0 rfl dX5_turns_189 rfl ?_
    refine e_iload_n X hl 1 rfl dX5_turns_190 rfl ?_
    obtain ⟨v34, h, hE⟩ := ob_some hE
    refine r_callV1 X hM 40 rfl ck_X5 (rest := [vI x4]) (met_X5_from l G ad hp0 M b1 h) (cwV 1 X.ht (lw_V q3222 q3224 qs80 q170 q3225) rfl rfl rfl hd_X5_from (cxR (by decide) (by decide))) rfl hl.1 rfl (Nat.le_of_ble_eq_true rfl) dX5_turns_191 ⟨Nat.le_refl _, Nat.le_refl _⟩ (fun H locs hM => ?_)
    refine e_icmp_eq X (w32 x4) (w32 v34) rfl rfl hE dX5_turns_194 rfl (fun hE => ?_) (fun hE => ?_)
    · exact hk x3 x4 _ _ _ hM (lv_sub hl [0, 1, 2, 3] rfl) hE
    · refine e_aload_n X hl 0 rfl dX5_turns_197 rfl ?_
      refine e_aload_n X hl 0 rfl dX5_turns_198 rfl ?_
      refine r_getR X hM ck_X5 40 17 rfl rfl (by decide) q3051 rfl dX5_turns_199 ?_
      refine e_iload X hl 3 rfl dX5_turns_202 ?_
      refine r_iald X hM 17 rfl (Nat.le_of_ble_eq_true rfl) hE dX5_turns_204 (fun v35 hE => ?_)
      obtain ⟨v36, h, hE⟩ := ob_some hE
      refine r_callV1 X hM 40 rfl ck_X5 (rest := []) (met_X5_room l G ad hp0 M v35 h) (cwV 1 X.ht (lw_V q3335 q3337 qs100 q170 q3338) rfl rfl rfl hd_X5_room (cxR (by decide) (by decide))) rfl hl.1 rfl (Nat.le_of_ble_eq_true rfl) dX5_turns_205 ⟨Nat.le_refl _, Nat.le_refl _⟩ (fun H locs hM => ?_)
      refine e_iload_n X hl 2 rfl dX5_turns_208 rfl ?_
      obtain ⟨kj37, hkj37, hE⟩ := jn_ex hE
      have hjkj37 : ∀ (v38 : Int) (H : Heap) (locs : List Loc) (ls : Array Slot), RW G dX5 ad hp0 M H locs → lv_has ls 5 [(0, .ref (ad 40)), (1, vI b1), (4, vI x4)] → kj37 v38 = some out → W p l e (rmD 3) s m args below meth c H locs 0 0 (QR below G dX5 ad hp0 args s (some (vI out.1)) out.2) (F0 m 227 ls [vI v38]) := by
        intro v38 H locs ls hM hl hE
        subst hkj37
        refine e_istore_n X hl [(3, vI v38), (0, .ref (ad 40)), (1, vI b1), (4, vI x4)] dX5_turns_227 rfl (by decide) rfl (fun ls hl => ?_)
        refine e_aload_n X hl 1 rfl dX5_turns_228 rfl ?_
        refine e_aload_n X hl 1 rfl dX5_turns_229 rfl ?_
        refine r_getR X hM ck_X5 40 17 rfl rfl (by decide) q3051 rfl dX5_turns_230 ?_
        refine e_iload X hl 3 rfl dX5_turns_233 ?_
        refine r_iald X hM 17 rfl (Nat.le_of_ble_eq_true rfl) hE dX5_turns_235 (fun v39 hE => ?_)
        refine e_iconst X dX5_turns_236 ?_
        obtain ⟨v40, h, hE⟩ := ob_some hE
        refine r_callV1 X hM 40 rfl ck_X5 (rest := []) (met_X5_leads l G ad hp0 M v39 1 h) (cwV 2 X.ht (lw_V q3331 q3333 qs99 q170 q3334) rfl rfl rfl hd_X5_leads (cxR (by decide) (by decide))) rfl hl.1 rfl (Nat.le_of_ble_eq_true rfl) dX5_turns_237 ⟨Nat.le_refl _, Nat.le_refl _⟩ (fun H locs hM => ?_)
        refine e_istore X hl [(4, vI v40), (3, vI v38), (0, .ref (ad 40)), (1, vI b1)] dX5_turns_240 (by decide) rfl (fun ls hl => ?_)
        refine e_goto X dX5_turns_242 rfl ?_
        exact ih v38 v40 _ _ _ hE hM (lv_sub hl [2, 3, 1, 0] rfl) hk
      refine e_icmp_ge X (w32 v36) (w32 x3) rfl rfl hE dX5_turns_209 rfl (fun hE => ?_) (fun hE => ?_)
      · refine e_iload_n X hl 2 rfl dX5_turns_226 rfl ?_
        exact hjkj37 x3 _ _ _ hM (lv_sub hl [0, 1, 3] rfl) hE
      · refine e_aload_n X hl 0 rfl dX5_turns_212 rfl ?_
        refine e_aload_n X hl 0 rfl dX5_turns_213 rfl ?_
        refine r_getR X hM ck_X5 40 17 rfl rfl (by decide) q3051 rfl dX5_turns_214 ?_
        refine e_iload X hl 3 rfl dX5_turns_217 ?_
        refine r_iald X hM 17 rfl (Nat.le_of_ble_eq_true rfl) hE dX5_turns_219 (fun v41 hE => ?_)
        obtain ⟨v42, h, hE⟩ := ob_some hE
        refine r_callV1 X hM 40 rfl ck_X5 (rest := []) (met_X5_room l G ad hp0 M v41 h) (cwV 1 X.ht (lw_V q3335 q3337 qs100 q170 q3338) rfl rfl rfl hd_X5_room (cxR (by decide) (by decide))) rfl hl.1 rfl (Nat.le_of_ble_eq_true rfl) dX5_turns_220 ⟨Nat.le_refl _, Nat.le_refl _⟩ (fun H locs hM => ?_)
        refine e_goto X dX5_turns_223 rfl ?_
        exact hjkj37 v42 _ _ _ hM (lv_sub hl [0, 1, 3] rfl) hE
theorem wl_X5_turns_252 {p : Program} {l : Launch} {e : Env} {s : State} {m : MethodId} {args : Array Value} {below : List Frame} {meth : Method} {c : Code} {G : GG} {ad : Nat → Nat} {hp0 : HP} (X : CX p s m args meth c cX5_turns 5 RX5 (some .boolean) G) {N : Nat} {b1 : Int} {b3 : Int}  {k : RM → Int → Option (Int × RM)} {out : (Int × RM)} : ∀ (n : Nat) (M : RM) (x4 : Int) (H : Heap) (locs : List Loc) (ls : Array Slot) (hE : f_X5_turns_L252 N b1 b3 k n M x4 = some out) (hM : RW G dX5 ad hp0 M H locs) (hl : lv_has ls 5 [(0, .ref (ad 40)), (1, vI b1), (3, vI b3), (4, vI x4)]) (hk : ∀ (M : RM) (x4 : Int) (H : Heap) (locs : List Loc) (ls : Array Slot), RW G dX5 ad hp0 M H locs → lv_has ls 5 [(0, .ref (ad 40)), (1, vI b1), (3, vI b3), (4, vI x4)] → k M x4 = some out → W p l e (rmD 3) s m args below meth c H locs 0 0 (QR below G dX5 ad hp0 args s (some (vI out.1)) out.2) (F0 m 291 ls [])), W p l e (rmD 3) s m args below meth c H locs 0 0 (QR below G dX5 ad hp0 args s (some (vI out.1)) out.2) (F0 m 252 ls []) := by
  intro n
  induction n with
  | zero =>
    intro M x4 H locs ls hE hM hl hk
    unfold f_X5_turns_L252 at hE
    cases hE
  | succ n ih =>
    intro M x4 H locs ls hE hM hl hk
    unfold f_X5_turns_L252 at hE
    refine e_iload X hl 3 rfl dX5_turns_252 ?_
    refine e_aload_n X hl 0 rfl dX5_turns_254 rfl ?_
    refine e_iload_n X hl 1 rfl dX5_turns_255 rfl ?_
    obtain ⟨v46, h, hE⟩ := ob_some hE
    refine r_callV1 X hM 40 rfl ck_X5 (rest := [vI x4]) (met_X5_from l G ad hp0 M b1 h) (cwV 1 X.ht (lw_V q3222 q3224 qs80 q170 q3225) rfl rfl rfl hd_X5_from (cxR (by decide) (by decide))) rfl hl.1 rfl (Nat.le_of_ble_eq_true rfl) dX5_turns_256 ⟨Nat.le_refl _, Nat.le_refl _⟩ (fun H locs hM => ?_)
    refine e_icmp_eq X (w32 x4) (w32 v46) rfl rfl hE dX5_turns_259 rfl (fun hE => ?_) (fun hE => ?_)
    · exact hk M x4 _ _ _ hM (lv_sub hl [0, 1, 2, 3] rfl) hE
    · refine e_aload_n X hl 0 rfl dX5_turns_262 rfl ?_
      refine e_aload_n X hl 0 rfl dX5_turns_263 rfl ?_
      refine r_getR X hM ck_X5 40 17 rfl rfl (by decide) q3051 rfl dX5_turns_264 ?_
      refine e_iload X hl 3 rfl dX5_turns_267 ?_
      refine r_iald X hM 17 rfl (Nat.le_of_ble_eq_true rfl) hE dX5_turns_269 (fun v47 hE => ?_)
      refine e_iload_n X hl 2 rfl dX5_turns_270 rfl ?_
      obtain ⟨M48, h, hE⟩ := ob_some hE
      refine r_callV0 X hM 40 rfl ck_X5 (rest := []) (met_X5_goes l G ad hp0 M v47 b3 h) (cwV 2 X.ht (lw_V q3343 q3345 qs102 q170 q3346) rfl rfl rfl hd_X5_goes (cxR (by decide) (by decide))) rfl hl.1 rfl (Nat.le_of_ble_eq_true rfl) dX5_turns_271 ⟨Nat.le_refl _, Nat.le_refl _⟩ (fun H locs hM => ?_)
      refine e_aload_n X hl 0 rfl dX5_turns_274 rfl ?_
      refine e_aload_n X hl 0 rfl dX5_turns_275 rfl ?_
      refine r_getR X hM ck_X5 40 17 rfl rfl (by decide) q3051 rfl dX5_turns_276 ?_
      refine e_iload X hl 3 rfl dX5_turns_279 ?_
      refine r_iald X hM 17 rfl (Nat.le_of_ble_eq_true rfl) hE dX5_turns_281 (fun v49 hE => ?_)
      refine e_iconst X dX5_turns_282 ?_
      obtain ⟨v50, h, hE⟩ := ob_some hE
      refine r_callV1 X hM 40 rfl ck_X5 (rest := []) (met_X5_leads l G ad hp0 M48 v49 1 h) (cwV 2 X.ht (lw_V q3331 q3333 qs99 q170 q3334) rfl rfl rfl hd_X5_leads (cxR (by decide) (by decide))) rfl hl.1 rfl (Nat.le_of_ble_eq_true rfl) dX5_turns_283 ⟨Nat.le_refl _, Nat.le_refl _⟩ (fun H locs hM => ?_)
      refine e_istore X hl [(4, vI v50), (0, .ref (ad 40)), (1, vI b1), (3, vI b3)] dX5_turns_286 (by decide) rfl (fun ls hl => ?_)
      refine e_goto X dX5_turns_288 rfl ?_
      exact ih M48 v50 _ _ _ hE hM (lv_sub hl [1, 2, 3, 0] rfl) hk
theorem wb_X5_turns {p : Program} {l : Launch} {e : Env} {s : State} {m : MethodId} {args : Array Value} {below : List Frame} {meth : Method} {c : Code} {G : GG} {ad : Nat → Nat} {hp0 : HP} (X : CX p s m args meth c cX5_turns 5 RX5 (some .boolean) G) {N : Nat} {M : RM} {a1 : Int}   {out : (Int × RM)} (hE : f_X5_turns N M a1 = some out) {H : Heap} {locs : List Loc} {ls : Array Slot} (hM : RW G dX5 ad hp0 M H locs) (hl : lv_has ls 5 [(0, .ref (ad 40)), (1, vI a1)]) : W p l e (rmD 3) s m args below meth c H locs 0 0 (QR below G dX5 ad hp0 args s (some (vI out.1)) out.2) (F0 m 0 ls []) := by
  unfold f_X5_turns at hE
  refine e_iconst X dX5_turns_0 ?_
  refine e_istore_n X hl [(2, vI 0), (0, .ref (ad 40)), (1, vI a1)] dX5_turns_1 rfl (by decide) rfl (fun ls hl => ?_)
  refine wl_X5_turns_2 X _ M 0 _ _ _ hE hM (lv_sub hl [1, 2, 0] rfl) (fun M3 v4 H locs ls hM hl hE => ?_)
  refine e_aload_n X hl 0 rfl dX5_turns_21 rfl ?_
  refine r_getR X hM ck_X5 40 18 rfl rfl (by decide) q3052 rfl dX5_turns_22 ?_
  refine e_aload_n X hl 0 rfl dX5_turns_25 rfl ?_
  refine e_iload_n X hl 1 rfl dX5_turns_26 rfl ?_
  obtain ⟨v5, h, hE⟩ := ob_some hE
  refine r_callV1 X hM 40 rfl ck_X5 (rest := [.ref (ad 18)]) (met_X5_from l G ad hp0 M3 a1 h) (cwV 1 X.ht (lw_V q3222 q3224 qs80 q170 q3225) rfl rfl rfl hd_X5_from (cxR (by decide) (by decide))) rfl hl.1 rfl (Nat.le_of_ble_eq_true rfl) dX5_turns_27 ⟨Nat.le_refl _, Nat.le_refl _⟩ (fun H locs hM => ?_)
  refine e_iconst X dX5_turns_30 ?_
  refine r_zast X hM 18 rfl (Nat.le_of_ble_eq_true rfl) hE dX5_turns_31 (fun M6 hE H locs hM => ?_)
  refine e_iconst X dX5_turns_32 ?_
  refine e_istore_n X hl [(2, vI 1), (0, .ref (ad 40)), (1, vI a1)] dX5_turns_33 rfl (by decide) rfl (fun ls hl => ?_)
  refine wl_X5_turns_34 X _ M6 1 _ _ _ hE hM (lv_sub hl [1, 2, 0] rfl) (fun M27 v28 H locs ls hM hl hE => ?_)
  refine e_aload_n X hl 0 rfl dX5_turns_143 rfl ?_
  refine r_getR X hM ck_X5 40 18 rfl rfl (by decide) q3052 rfl dX5_turns_144 ?_
  refine e_aload_n X hl 0 rfl dX5_turns_147 rfl ?_
  refine e_iload_n X hl 1 rfl dX5_turns_148 rfl ?_
  obtain ⟨v29, h, hE⟩ := ob_some hE
  refine r_callV1 X hM 40 rfl ck_X5 (rest := [.ref (ad 18)]) (met_X5_to l G ad hp0 M27 a1 h) (cwV 1 X.ht (lw_V q3226 q3228 qs81 q170 q3229) rfl rfl rfl hd_X5_to (cxR (by decide) (by decide))) rfl hl.1 rfl (Nat.le_of_ble_eq_true rfl) dX5_turns_149 ⟨Nat.le_refl _, Nat.le_refl _⟩ (fun H locs hM => ?_)
  refine r_zald X hM 18 rfl (Nat.le_of_ble_eq_true rfl) hE dX5_turns_152 (fun v30 hE => ?_)
  refine e_if_eq X (w32 v30) rfl hE dX5_turns_153 rfl (fun hE => ?_) (fun hE => ?_)
  · refine e_iconst X dX5_turns_168 ?_
    cases hE
    exact r_zret (x := 0) X hM rfl dX5_turns_169
  · refine e_aload_n X hl 0 rfl dX5_turns_156 rfl ?_
    refine e_iconst X dX5_turns_157 ?_
    refine e_iload_n X hl 1 rfl dX5_turns_158 rfl ?_
    refine e_imul X dX5_turns_159 ?_
    refine e_iconst X dX5_turns_160 ?_
    refine e_iadd X dX5_turns_161 ?_
    obtain ⟨v31, h, hE⟩ := ob_some hE
    refine r_callV1 X hM 40 rfl ck_X5 (rest := []) (met_X5_isLevel l G ad hp0 M27 ((2 * a1) + 1) h) (cwV 1 X.ht (lw_V q3359 q3361 qs106 q170 q3362) rfl rfl rfl hd_X5_isLevel (cxR (by decide) (by decide))) rfl hl.1 rfl (Nat.le_of_ble_eq_true rfl) dX5_turns_162 ⟨Nat.le_refl _, Nat.le_refl _⟩ (fun H locs hM => ?_)
    refine e_if_ne X (w32 v31) rfl hE dX5_turns_165 rfl (fun hE => ?_) (fun hE => ?_)
    · refine e_aload_n X hl 0 rfl dX5_turns_170 rfl ?_
      refine e_iconst X dX5_turns_171 ?_
      refine e_iload_n X hl 1 rfl dX5_turns_172 rfl ?_
      refine e_imul X dX5_turns_173 ?_
      refine e_iconst X dX5_turns_174 ?_
      refine e_iadd X dX5_turns_175 ?_
      obtain ⟨v32, h, hE⟩ := ob_some hE
      refine r_callV1 X hM 40 rfl ck_X5 (rest := []) (met_X5_room l G ad hp0 M27 ((2 * a1) + 1) h) (cwV 1 X.ht (lw_V q3335 q3337 qs100 q170 q3338) rfl rfl rfl hd_X5_room (cxR (by decide) (by decide))) rfl hl.1 rfl (Nat.le_of_ble_eq_true rfl) dX5_turns_176 ⟨Nat.le_refl _, Nat.le_refl _⟩ (fun H locs hM => ?_)
      refine e_istore_n X hl [(3, vI v32), (0, .ref (ad 40)), (1, vI a1), (2, vI v28)] dX5_turns_179 rfl (by decide) rfl (fun ls hl => ?_)
      refine e_aload_n X hl 1 rfl dX5_turns_180 rfl ?_
      refine e_iload_n X hl 2 rfl dX5_turns_181 rfl ?_
      obtain ⟨v33, h, hE⟩ := ob_some hE
      refine r_callV1 X hM 40 rfl ck_X5 (rest := []) (met_X5_to l G ad hp0 M27 a1 h) (cwV 1 X.ht (lw_V q3226 q3228 qs81 q170 q3229) rfl rfl rfl hd_X5_to (cxR (by decide) (by decide))) rfl hl.1 rfl (Nat.le_of_ble_eq_true rfl) dX5_turns_182 ⟨Nat.le_refl _, Nat.le_refl _⟩ (fun H locs hM => ?_)
      refine e_istore X hl [(4, vI v33), (3, vI v32), (0, .ref (ad 40)), (1, vI a1), (2, vI v28)] dX5_turns_185 (by decide) rfl (fun ls hl => ?_)
      refine wl_X5_turns_187 X _ v32 v33 _ _ _ hE hM (lv_sub hl [2, 3, 1, 0] rfl) (fun v43 v44 H locs ls hM hl hE => ?_)
      refine e_aload_n X hl 0 rfl dX5_turns_245 rfl ?_
      refine e_iload_n X hl 1 rfl dX5_turns_246 rfl ?_
      obtain ⟨v45, h, hE⟩ := ob_some hE
      refine r_callV1 X hM 40 rfl ck_X5 (rest := []) (met_X5_to l G ad hp0 M27 a1 h) (cwV 1 X.ht (lw_V q3226 q3228 qs81 q170 q3229) rfl rfl rfl hd_X5_to (cxR (by decide) (by decide))) rfl hl.1 rfl (Nat.le_of_ble_eq_true rfl) dX5_turns_247 ⟨Nat.le_refl _, Nat.le_refl _⟩ (fun H locs hM => ?_)
      refine e_istore X hl [(4, vI v45), (0, .ref (ad 40)), (1, vI a1), (3, vI v43)] dX5_turns_250 (by decide) rfl (fun ls hl => ?_)
      refine wl_X5_turns_252 X _ M27 v45 _ _ _ hE hM (lv_sub hl [1, 2, 3, 0] rfl) (fun M51 v52 H locs ls hM hl hE => ?_)
      refine e_aload_n X hl 0 rfl dX5_turns_291 rfl ?_
      refine e_iconst X dX5_turns_292 ?_
      refine e_iload_n X hl 1 rfl dX5_turns_293 rfl ?_
      refine e_imul X dX5_turns_294 ?_
      refine e_iconst X dX5_turns_295 ?_
      refine e_iadd X dX5_turns_296 ?_
      refine e_iload_n X hl 2 rfl dX5_turns_297 rfl ?_
      obtain ⟨M53, h, hE⟩ := ob_some hE
      refine r_callV0 X hM 40 rfl ck_X5 (rest := []) (met_X5_goes l G ad hp0 M51 ((2 * a1) + 1) v43 h) (cwV 2 X.ht (lw_V q3343 q3345 qs102 q170 q3346) rfl rfl rfl hd_X5_goes (cxR (by decide) (by decide))) rfl hl.1 rfl (Nat.le_of_ble_eq_true rfl) dX5_turns_298 ⟨Nat.le_refl _, Nat.le_refl _⟩ (fun H locs hM => ?_)
      refine e_iconst X dX5_turns_301 ?_
      cases hE
      exact r_zret (x := 1) X hM rfl dX5_turns_302
    · refine e_iconst X dX5_turns_168 ?_
      cases hE
      exact r_zret (x := 0) X hM rfl dX5_turns_169
theorem met_X5_turns (l : Launch) (G : GG) (ad : Nat → Nat) (hp0 : HP) {N : Nat} (M : RM) (a1 : Int)  {out : (Int × RM)} (hE : f_X5_turns N M a1 = some out) : MR l yX5_turns (ws_ yX5_turns cX5_turns 5 (some .boolean)) 3 G dX5 ad hp0 [.ref (ad 40), vI a1] M (some (vI out.1)) out.2 :=
  MR.of (by decide) (Nat.le_of_ble_eq_true rfl) rfl (fun p e s m below meth c ls X hM hl => wb_X5_turns X hE hM hl)
def f_X5_flows_L25 (N : Nat) (b1 : Int) (k : RM → Int → Option (Int × RM)) : Nat → RM → Int → Option (Int × RM)
  | 0, _, _ => none
  | n + 1, M, x2 =>
    if w32 x2 = 0 then (k M x2) else (ob2 (f_X5_turns N M b1) fun v5 M6 => f_X5_flows_L25 N b1 k n M6 v5)
def f_X5_flows_L15 (N : Nat)  (k : RM → Int → Option (Int × RM)) : Nat → RM → Int → Option (Int × RM)
  | 0, _, _ => none
  | n + 1, M, x1 =>
    ob (f_X5_many M) fun v4 => if w32 v4 ≤ w32 x1 then (k M x1) else (f_X5_flows_L25 N x1 (fun (M7 : RM) (v8 : Int) => jn (x1 + 1) fun v9 => f_X5_flows_L15 N  k n M7 v9) N M 1)
def f_X5_flows (N : Nat) (M : RM)  : Option (Int × RM) :=
  ob2 (f_X5_isCheap N M) fun v1 M2 => if ¬ w32 v1 = 0 then (ob (f_X5_prices N M2) fun M3 => f_X5_flows_L15 N  (fun (M10 : RM) (v11 : Int) => some (1, M10)) N M3 0) else (some (0, M2))
theorem hd_X5_flows : yX5_flows.cls = RX5 ∧ yX5_flows.cls ≠ "java/lang/invoke/MethodHandle" ∧ yX5_flows.cls ≠ "java/lang/invoke/VarHandle" ∧ (parseMethodDescriptor yX5_flows.desc).map (fun d => d.parameters.length) = some 0 := by decide +kernel
theorem wl_X5_flows_25 {p : Program} {l : Launch} {e : Env} {s : State} {m : MethodId} {args : Array Value} {below : List Frame} {meth : Method} {c : Code} {G : GG} {ad : Nat → Nat} {hp0 : HP} (X : CX p s m args meth c cX5_flows 3 RX5 (some .boolean) G) {N : Nat} {b1 : Int}  {k : RM → Int → Option (Int × RM)} {out : (Int × RM)} : ∀ (n : Nat) (M : RM) (x2 : Int) (H : Heap) (locs : List Loc) (ls : Array Slot) (hE : f_X5_flows_L25 N b1 k n M x2 = some out) (hM : RW G dX5 ad hp0 M H locs) (hl : lv_has ls 3 [(0, .ref (ad 40)), (1, vI b1), (2, vI x2)]) (hk : ∀ (M : RM) (x2 : Int) (H : Heap) (locs : List Loc) (ls : Array Slot), RW G dX5 ad hp0 M H locs → lv_has ls 3 [(0, .ref (ad 40)), (1, vI b1), (2, vI x2)] → k M x2 = some out → W p l e (rmD 5) s m args below meth c H locs 0 0 (QR below G dX5 ad hp0 args s (some (vI out.1)) out.2) (F0 m 38 ls [])), W p l e (rmD 5) s m args below meth c H locs 0 0 (QR below G dX5 ad hp0 args s (some (vI out.1)) out.2) (F0 m 25 ls []) := by
  intro n
  induction n with
  | zero =>
    intro M x2 H locs ls hE hM hl hk
    unfold f_X5_flows_L25 at hE
    cases hE
  | succ n ih =>
    intro M x2 H locs ls hE hM hl hk
    unfold f_X5_flows_L25 at hE
    refine e_iload_n X hl 2 rfl dX5_flows_25 rfl ?_
    refine e_if_eq X (w32 x2) rfl hE dX5_flows_26 rfl (fun hE => ?_) (fun hE => ?_)
    · exact hk M x2 _ _ _ hM (lv_sub hl [0, 1, 2] rfl) hE
    · refine e_aload_n X hl 0 rfl dX5_flows_29 rfl ?_
      refine e_iload_n X hl 1 rfl dX5_flows_30 rfl ?_
      obtain ⟨v5, M6, h, hE⟩ := ob2_some hE
      refine r_callV1 X hM 40 rfl ck_X5 (rest := []) (met_X5_turns l G ad hp0 M b1 h) (cwV 1 X.ht (lw_V q3355 q3357 qs105 q170 q3358) rfl rfl rfl hd_X5_turns (cxR (by decide) (by decide))) rfl hl.1 rfl (Nat.le_of_ble_eq_true rfl) dX5_flows_31 ⟨Nat.le_refl _, Nat.le_refl _⟩ (fun H locs hM => ?_)
      refine e_istore_n X hl [(2, vI v5), (0, .ref (ad 40)), (1, vI b1)] dX5_flows_34 rfl (by decide) rfl (fun ls hl => ?_)
      refine e_goto X dX5_flows_35 rfl ?_
      exact ih M6 v5 _ _ _ hE hM (lv_sub hl [1, 2, 0] rfl) hk
theorem wl_X5_flows_15 {p : Program} {l : Launch} {e : Env} {s : State} {m : MethodId} {args : Array Value} {below : List Frame} {meth : Method} {c : Code} {G : GG} {ad : Nat → Nat} {hp0 : HP} (X : CX p s m args meth c cX5_flows 3 RX5 (some .boolean) G) {N : Nat}   {k : RM → Int → Option (Int × RM)} {out : (Int × RM)} : ∀ (n : Nat) (M : RM) (x1 : Int) (H : Heap) (locs : List Loc) (ls : Array Slot) (hE : f_X5_flows_L15 N  k n M x1 = some out) (hM : RW G dX5 ad hp0 M H locs) (hl : lv_has ls 3 [(0, .ref (ad 40)), (1, vI x1)]) (hk : ∀ (M : RM) (x1 : Int) (H : Heap) (locs : List Loc) (ls : Array Slot), RW G dX5 ad hp0 M H locs → lv_has ls 3 [(0, .ref (ad 40)), (1, vI x1)] → k M x1 = some out → W p l e (rmD 5) s m args below meth c H locs 0 0 (QR below G dX5 ad hp0 args s (some (vI out.1)) out.2) (F0 m 44 ls [])), W p l e (rmD 5) s m args below meth c H locs 0 0 (QR below G dX5 ad hp0 args s (some (vI out.1)) out.2) (F0 m 15 ls []) := by
  intro n
  induction n with
  | zero =>
    intro M x1 H locs ls hE hM hl hk
    unfold f_X5_flows_L15 at hE
    cases hE
  | succ n ih =>
    intro M x1 H locs ls hE hM hl hk
    unfold f_X5_flows_L15 at hE
    refine e_iload_n X hl 1 rfl dX5_flows_15 rfl ?_
    refine e_aload_n X hl 0 rfl dX5_flows_16 rfl ?_
    obtain ⟨v4, h, hE⟩ := ob_some hE
    refine r_callV1 X hM 40 rfl ck_X5 (rest := [vI x1]) (met_X5_many l G ad hp0 M h) (cwV 0 X.ht (lw_V q3206 q3208 qs77 q170 q3209) rfl rfl rfl hd_X5_many (cxR (by decide) (by decide))) rfl hl.1 rfl (Nat.le_of_ble_eq_true rfl) dX5_flows_17 ⟨Nat.le_refl _, Nat.le_refl _⟩ (fun H locs hM => ?_)
    refine e_icmp_ge X (w32 x1) (w32 v4) rfl rfl hE dX5_flows_20 rfl (fun hE => ?_) (fun hE => ?_)
    · exact hk M x1 _ _ _ hM (lv_sub hl [0, 1] rfl) hE
    · refine e_iconst X dX5_flows_23 ?_
      refine e_istore_n X hl [(2, vI 1), (0, .ref (ad 40)), (1, vI x1)] dX5_flows_24 rfl (by decide) rfl (fun ls hl => ?_)
      refine wl_X5_flows_25 X _ M 1 _ _ _ hE hM (lv_sub hl [1, 2, 0] rfl) (fun M7 v8 H locs ls hM hl hE => ?_)
      refine e_iinc X hl 1 hE (fun v9 => [(1, vI v9), (0, .ref (ad 40)), (2, vI v8)]) rfl dX5_flows_38 (by decide) (fun _ => rfl) (fun v9 hE ls hl => ?_)
      refine e_goto X dX5_flows_41 rfl ?_
      exact ih M7 v9 _ _ _ hE hM (lv_sub hl [1, 0] rfl) hk
theorem wb_X5_flows {p : Program} {l : Launch} {e : Env} {s : State} {m : MethodId} {args : Array Value} {below : List Frame} {meth : Method} {c : Code} {G : GG} {ad : Nat → Nat} {hp0 : HP} (X : CX p s m args meth c cX5_flows 3 RX5 (some .boolean) G) {N : Nat} {M : RM}   {out : (Int × RM)} (hE : f_X5_flows N M = some out) {H : Heap} {locs : List Loc} {ls : Array Slot} (hM : RW G dX5 ad hp0 M H locs) (hl : lv_has ls 3 [(0, .ref (ad 40))]) : W p l e (rmD 5) s m args below meth c H locs 0 0 (QR below G dX5 ad hp0 args s (some (vI out.1)) out.2) (F0 m 0 ls []) := by
  unfold f_X5_flows at hE
  refine e_aload_n X hl 0 rfl dX5_flows_0 rfl ?_
  obtain ⟨v1, M2, h, hE⟩ := ob2_some hE
  refine r_callV1 X hM 40 rfl ck_X5 (rest := []) (met_X5_isCheap l G ad hp0 M h) (cwV 0 X.ht (lw_V q3314 q3316 qs95 q170 q3317) rfl rfl rfl hd_X5_isCheap (cxR (by decide) (by decide))) rfl hl.1 rfl (Nat.le_of_ble_eq_true rfl) dX5_flows_1 ⟨Nat.le_refl _, Nat.le_refl _⟩ (fun H locs hM => ?_)
  refine e_if_ne X (w32 v1) rfl hE dX5_flows_4 rfl (fun hE => ?_) (fun hE => ?_)
  · refine e_aload_n X hl 0 rfl dX5_flows_9 rfl ?_
    obtain ⟨M3, h, hE⟩ := ob_some hE
    refine r_callV0 X hM 40 rfl ck_X5 (rest := []) (met_X5_prices l G ad hp0 M2 h) (cwV 0 X.ht (lw_V q3351 q3353 qs104 q170 q3354) rfl rfl rfl hd_X5_prices (cxR (by decide) (by decide))) rfl hl.1 rfl (Nat.le_of_ble_eq_true rfl) dX5_flows_10 ⟨Nat.le_refl _, Nat.le_refl _⟩ (fun H locs hM => ?_)
    refine e_iconst X dX5_flows_13 ?_
    refine e_istore_n X hl [(1, vI 0), (0, .ref (ad 40))] dX5_flows_14 rfl (by decide) rfl (fun ls hl => ?_)
    refine wl_X5_flows_15 X _ M3 0 _ _ _ hE hM (lv_sub hl [1, 0] rfl) (fun M10 v11 H locs ls hM hl hE => ?_)
    refine e_iconst X dX5_flows_44 ?_
    cases hE
    exact r_zret (x := 1) X hM rfl dX5_flows_45
  · refine e_iconst X dX5_flows_7 ?_
    cases hE
    exact r_zret (x := 0) X hM rfl dX5_flows_8
theorem met_X5_flows (l : Launch) (G : GG) (ad : Nat → Nat) (hp0 : HP) {N : Nat} (M : RM)   {out : (Int × RM)} (hE : f_X5_flows N M = some out) : MR l yX5_flows (ws_ yX5_flows cX5_flows 3 (some .boolean)) 5 G dX5 ad hp0 [.ref (ad 40)] M (some (vI out.1)) out.2 :=
  MR.of (by decide) (Nat.le_of_ble_eq_true rfl) rfl (fun p e s m below meth c ls X hM hl => wb_X5_flows X hE hM hl)
def f_X5_isBeyond (M0 : RM) (a1 : Int) (a2 : Int) : Option Int :=
  jn (a1 + a2) fun v1 => jn (fun (v3 : Int) => jn (fun (v5 : Int) => if ¬ w32 v3 = w32 v5 then (some 0) else (jn (fun (v7 : Int) => jn (fun (v9 : Int) => if w32 v7 = w32 v9 then (some 0) else (some 1)) fun kj8 => if 0 ≤ w64 a1 then (kj8 0) else (kj8 1)) fun kj6 => if 0 ≤ w64 v1 then (kj6 0) else (kj6 1))) fun kj4 => if 0 ≤ w64 a2 then (kj4 0) else (kj4 1)) fun kj2 => if 0 ≤ w64 a1 then (kj2 0) else (kj2 1)
theorem hd_X5_isBeyond : yX5_isBeyond.cls ≠ "java/lang/invoke/MethodHandle" ∧ yX5_isBeyond.cls ≠ "java/lang/invoke/VarHandle" ∧ (parseMethodDescriptor yX5_isBeyond.desc).map (fun d => d.parameters.length) = some 2 := by decide +kernel
theorem wb_X5_isBeyond {p : Program} {l : Launch} {e : Env} {s : State} {m : MethodId} {args : Array Value} {below : List Frame} {meth : Method} {c : Code} {G : GG} {ad : Nat → Nat} {hp0 : HP} {M0 : RM} (X : CX p s m args meth c cX5_isBeyond 6 RX5 (some .boolean) G) {a1 : Int} {a2 : Int}   {out : Int} (hE : f_X5_isBeyond M0 a1 a2 = some out) {H : Heap} {locs : List Loc} {ls : Array Slot} (hM : RW G dX5 ad hp0 M0 H locs) (hl : lv_has ls 6 [(0, vL a1), (2, vL a2)]) : W p l e (rmD 0) s m args below meth c H locs 0 0 (QR below G dX5 ad hp0 args s (some (vI out)) M0) (F0 m 0 ls []) := by
  unfold f_X5_isBeyond at hE
  refine e_lload_n X hl 0 rfl dX5_isBeyond_0 rfl ?_
  refine e_lload_n X hl 1 rfl dX5_isBeyond_1 rfl ?_
  refine e_ladd X dX5_isBeyond_2 ?_
  refine e_topl hE (fun v1 hE => ?_)
  refine e_lstore X hl [(4, vL v1), (0, vL a1), (2, vL a2)] dX5_isBeyond_3 (by decide) rfl (fun ls hl => ?_)
  refine e_lload_n X hl 1 rfl dX5_isBeyond_5 rfl ?_
  refine e_lconst X 0 dX5_isBeyond_6 (by decide) ?_
  obtain ⟨kj2, hkj2, hE⟩ := jn_ex hE
  have hjkj2 : ∀ (v3 : Int) (H : Heap) (locs : List Loc) (ls : Array Slot), RW G dX5 ad hp0 M0 H locs → lv_has ls 6 [(0, vL a1), (2, vL a2), (4, vL v1)] → kj2 v3 = some out → W p l e (rmD 0) s m args below meth c H locs 0 0 (QR below G dX5 ad hp0 args s (some (vI out)) M0) (F0 m 16 ls [vI v3]) := by
    intro v3 H locs ls hM hl hE
    subst hkj2
    refine e_lload_n X hl 1 rfl dX5_isBeyond_16 rfl ?_
    refine e_lconst X 0 dX5_isBeyond_17 (by decide) ?_
    obtain ⟨kj4, hkj4, hE⟩ := jn_ex hE
    have hjkj4 : ∀ (v5 : Int) (H : Heap) (locs : List Loc) (ls : Array Slot), RW G dX5 ad hp0 M0 H locs → lv_has ls 6 [(0, vL a1), (4, vL v1)] → kj4 v5 = some out → W p l e (rmD 0) s m args below meth c H locs 0 0 (QR below G dX5 ad hp0 args s (some (vI out)) M0) (F0 m 27 ls [vI v5, vI v3]) := by
      intro v5 H locs ls hM hl hE
      subst hkj4
      refine e_icmp_ne X (w32 v3) (w32 v5) rfl rfl hE dX5_isBeyond_27 rfl (fun hE => ?_) (fun hE => ?_)
      · refine e_iconst X dX5_isBeyond_60 ?_
        cases hE
        exact r_zret (x := 0) X hM rfl dX5_isBeyond_61
      · refine e_lload X hl 1 rfl dX5_isBeyond_30 ?_
        refine e_lconst X 0 dX5_isBeyond_32 (by decide) ?_
        obtain ⟨kj6, hkj6, hE⟩ := jn_ex hE
        have hjkj6 : ∀ (v7 : Int) (H : Heap) (locs : List Loc) (ls : Array Slot), RW G dX5 ad hp0 M0 H locs → lv_has ls 6 [(0, vL a1)] → kj6 v7 = some out → W p l e (rmD 0) s m args below meth c H locs 0 0 (QR below G dX5 ad hp0 args s (some (vI out)) M0) (F0 m 42 ls [vI v7]) := by
          intro v7 H locs ls hM hl hE
          subst hkj6
          refine e_lload_n X hl 0 rfl dX5_isBeyond_42 rfl ?_
          refine e_lconst X 0 dX5_isBeyond_43 (by decide) ?_
          obtain ⟨kj8, hkj8, hE⟩ := jn_ex hE
          have hjkj8 : ∀ (v9 : Int) (H : Heap) (locs : List Loc) (ls : Array Slot), RW G dX5 ad hp0 M0 H locs → lv_has ls 6 [] → kj8 v9 = some out → W p l e (rmD 0) s m args below meth c H locs 0 0 (QR below G dX5 ad hp0 args s (some (vI out)) M0) (F0 m 53 ls [vI v9, vI v7]) := by
            intro v9 H locs ls hM hl hE
            subst hkj8
            refine e_icmp_eq X (w32 v7) (w32 v9) rfl rfl hE dX5_isBeyond_53 rfl (fun hE => ?_) (fun hE => ?_)
            · refine e_iconst X dX5_isBeyond_60 ?_
              cases hE
              exact r_zret (x := 0) X hM rfl dX5_isBeyond_61
            · refine e_iconst X dX5_isBeyond_56 ?_
              refine e_goto X dX5_isBeyond_57 rfl ?_
              cases hE
              exact r_zret (x := 1) X hM rfl dX5_isBeyond_61
          refine e_lcmp_ge X (w64 a1) 0 rfl (by decide) hE dX5_isBeyond_44 dX5_isBeyond_45 rfl (fun hE => ?_) (fun hE => ?_)
          · refine e_iconst X dX5_isBeyond_52 ?_
            exact hjkj8 0 _ _ _ hM (lv_sub hl [] rfl) hE
          · refine e_iconst X dX5_isBeyond_48 ?_
            refine e_goto X dX5_isBeyond_49 rfl ?_
            exact hjkj8 1 _ _ _ hM (lv_sub hl [] rfl) hE
        refine e_lcmp_ge X (w64 v1) 0 rfl (by decide) hE dX5_isBeyond_33 dX5_isBeyond_34 rfl (fun hE => ?_) (fun hE => ?_)
        · refine e_iconst X dX5_isBeyond_41 ?_
          exact hjkj6 0 _ _ _ hM (lv_sub hl [0] rfl) hE
        · refine e_iconst X dX5_isBeyond_37 ?_
          refine e_goto X dX5_isBeyond_38 rfl ?_
          exact hjkj6 1 _ _ _ hM (lv_sub hl [0] rfl) hE
    refine e_lcmp_ge X (w64 a2) 0 rfl (by decide) hE dX5_isBeyond_18 dX5_isBeyond_19 rfl (fun hE => ?_) (fun hE => ?_)
    · refine e_iconst X dX5_isBeyond_26 ?_
      exact hjkj4 0 _ _ _ hM (lv_sub hl [0, 2] rfl) hE
    · refine e_iconst X dX5_isBeyond_22 ?_
      refine e_goto X dX5_isBeyond_23 rfl ?_
      exact hjkj4 1 _ _ _ hM (lv_sub hl [0, 2] rfl) hE
  refine e_lcmp_ge X (w64 a1) 0 rfl (by decide) hE dX5_isBeyond_7 dX5_isBeyond_8 rfl (fun hE => ?_) (fun hE => ?_)
  · refine e_iconst X dX5_isBeyond_15 ?_
    exact hjkj2 0 _ _ _ hM (lv_sub hl [1, 2, 0] rfl) hE
  · refine e_iconst X dX5_isBeyond_11 ?_
    refine e_goto X dX5_isBeyond_12 rfl ?_
    exact hjkj2 1 _ _ _ hM (lv_sub hl [1, 2, 0] rfl) hE
theorem met_X5_isBeyond (l : Launch) (G : GG) (ad : Nat → Nat) (hp0 : HP) (M0 : RM) (a1 : Int) (a2 : Int)  {out : Int} (hE : f_X5_isBeyond M0 a1 a2 = some out) : MR l yX5_isBeyond (ws_ yX5_isBeyond cX5_isBeyond 6 (some .boolean)) 0 G dX5 ad hp0 [vL a1, vL a2] M0 (some (vI out)) M0 :=
  MR.of (by decide) (Nat.le_of_ble_eq_true rfl) rfl (fun p e s m below meth c ls X hM hl => wb_X5_isBeyond X hE hM hl)
def f_X5_adds_L3 (N : Nat) (b1 : Int) (b3 : Int) (k : RM → Int → Option RM) : Nat → RM → Int → Option RM
  | 0, _, _ => none
  | n + 1, M, x4 =>
    if w32 b3 ≤ w32 x4 then (k M x4) else (ob (f_X5_isBeyond M (M 40 24) b1) fun v1 => ob (tz (iOr (M 40 25) v1)) fun v2 => jn (up2 M 40 25 v2) fun M3 => jn (up2 M3 40 24 ((M3 40 24) + b1)) fun M4 => jn (x4 + 1) fun v5 => f_X5_adds_L3 N b1 b3 k n M4 v5)
def f_X5_adds (N : Nat) (M : RM) (a1 : Int) (a2 : Int) : Option RM :=
  f_X5_adds_L3 N a1 a2 (fun (M6 : RM) (v7 : Int) => some M6) N M 0
theorem hd_X5_adds : yX5_adds.cls = RX5 ∧ yX5_adds.cls ≠ "java/lang/invoke/MethodHandle" ∧ yX5_adds.cls ≠ "java/lang/invoke/VarHandle" ∧ (parseMethodDescriptor yX5_adds.desc).map (fun d => d.parameters.length) = some 2 := by decide +kernel
theorem wl_X5_adds_3 {p : Program} {l : Launch} {e : Env} {s : State} {m : MethodId} {args : Array Value} {below : List Frame} {meth : Method} {c : Code} {G : GG} {ad : Nat → Nat} {hp0 : HP} (X : CX p s m args meth c cX5_adds 5 RX5 none G) {N : Nat} {b1 : Int} {b3 : Int}  {k : RM → Int → Option RM} {out : RM} : ∀ (n : Nat) (M : RM) (x4 : Int) (H : Heap) (locs : List Loc) (ls : Array Slot) (hE : f_X5_adds_L3 N b1 b3 k n M x4 = some out) (hM : RW G dX5 ad hp0 M H locs) (hl : lv_has ls 5 [(0, .ref (ad 40)), (1, vL b1), (3, vI b3), (4, vI x4)]) (hk : ∀ (M : RM) (x4 : Int) (H : Heap) (locs : List Loc) (ls : Array Slot), RW G dX5 ad hp0 M H locs → lv_has ls 5 [(0, .ref (ad 40)), (1, vL b1), (3, vI b3), (4, vI x4)] → k M x4 = some out → W p l e (rmD 1) s m args below meth c H locs 0 0 (QR below G dX5 ad hp0 args s none out) (F0 m 42 ls [])), W p l e (rmD 1) s m args below meth c H locs 0 0 (QR below G dX5 ad hp0 args s none out) (F0 m 3 ls []) := by
  intro n
  induction n with
  | zero =>
    intro M x4 H locs ls hE hM hl hk
    unfold f_X5_adds_L3 at hE
    cases hE
  | succ n ih =>
    intro M x4 H locs ls hE hM hl hk
    unfold f_X5_adds_L3 at hE
    refine e_iload X hl 3 rfl dX5_adds_3 ?_
    refine e_iload_n X hl 2 rfl dX5_adds_5 rfl ?_
    refine e_icmp_ge X (w32 x4) (w32 b3) rfl rfl hE dX5_adds_6 rfl (fun hE => ?_) (fun hE => ?_)
    · exact hk M x4 _ _ _ hM (lv_sub hl [0, 1, 2, 3] rfl) hE
    · refine e_aload_n X hl 0 rfl dX5_adds_9 rfl ?_
      refine e_dup X dX5_adds_10 rfl ?_
      refine r_getI X hM ck_X5 40 25 rfl rfl (by decide) q3059 rfl dX5_adds_11 ?_
      refine e_aload_n X hl 0 rfl dX5_adds_14 rfl ?_
      refine r_getJ X hM ck_X5 40 24 rfl rfl (by decide) q3058 rfl dX5_adds_15 ?_
      refine e_lload_n X hl 1 rfl dX5_adds_18 rfl ?_
      obtain ⟨v1, h, hE⟩ := ob_some hE
      refine r_callS1 X hM (rest := [vI (M 40 25), .ref (ad 40)]) (met_X5_isBeyond l G ad hp0 M (M 40 24) b1 h) (va_cwS 2 X.ht (lw_S q3371 q3372 q170 q3373) rfl rfl rfl hd_X5_isBeyond (cxR (by decide) (by decide))) rfl hl.1 rfl (Nat.le_of_ble_eq_true rfl) dX5_adds_19 ⟨Nat.le_refl _, Nat.le_refl _⟩ (fun H locs hM => ?_)
      refine e_ior X dX5_adds_22 ?_
      obtain ⟨v2, hz, hE⟩ := ob_some hE
      obtain ⟨hz, hz2⟩ := tz_some hz
      rw [hz2] at hE
      refine r_putZ X hM ck_X5 40 25 rfl rfl (by decide) q3059 rfl rfl hE hz rfl dX5_adds_23 (fun M3 hE H locs hM => ?_)
      refine e_aload_n X hl 0 rfl dX5_adds_26 rfl ?_
      refine e_dup X dX5_adds_27 rfl ?_
      refine r_getJ X hM ck_X5 40 24 rfl rfl (by decide) q3058 rfl dX5_adds_28 ?_
      refine e_lload_n X hl 1 rfl dX5_adds_31 rfl ?_
      refine e_ladd X dX5_adds_32 ?_
      refine r_putJ X hM ck_X5 40 24 rfl rfl (by decide) q3058 rfl rfl hE rfl dX5_adds_33 (fun M4 hE H locs hM => ?_)
      refine e_iinc X hl 3 hE (fun v5 => [(4, vI v5), (0, .ref (ad 40)), (1, vL b1), (3, vI b3)]) rfl dX5_adds_36 (by decide) (fun _ => rfl) (fun v5 hE ls hl => ?_)
      refine e_goto X dX5_adds_39 rfl ?_
      exact ih M4 v5 _ _ _ hE hM (lv_sub hl [1, 2, 3, 0] rfl) hk
theorem wb_X5_adds {p : Program} {l : Launch} {e : Env} {s : State} {m : MethodId} {args : Array Value} {below : List Frame} {meth : Method} {c : Code} {G : GG} {ad : Nat → Nat} {hp0 : HP} (X : CX p s m args meth c cX5_adds 5 RX5 none G) {N : Nat} {M : RM} {a1 : Int} {a2 : Int}   {out : RM} (hE : f_X5_adds N M a1 a2 = some out) {H : Heap} {locs : List Loc} {ls : Array Slot} (hM : RW G dX5 ad hp0 M H locs) (hl : lv_has ls 5 [(0, .ref (ad 40)), (1, vL a1), (3, vI a2)]) : W p l e (rmD 1) s m args below meth c H locs 0 0 (QR below G dX5 ad hp0 args s none out) (F0 m 0 ls []) := by
  unfold f_X5_adds at hE
  refine e_iconst X dX5_adds_0 ?_
  refine e_istore X hl [(4, vI 0), (0, .ref (ad 40)), (1, vL a1), (3, vI a2)] dX5_adds_1 (by decide) rfl (fun ls hl => ?_)
  refine wl_X5_adds_3 X _ M 0 _ _ _ hE hM (lv_sub hl [1, 2, 3, 0] rfl) (fun M6 v7 H locs ls hM hl hE => ?_)
  cases hE
  exact r_vret X hM dX5_adds_42
theorem met_X5_adds (l : Launch) (G : GG) (ad : Nat → Nat) (hp0 : HP) {N : Nat} (M : RM) (a1 : Int) (a2 : Int)  {out : RM} (hE : f_X5_adds N M a1 a2 = some out) : MR l yX5_adds (ws_ yX5_adds cX5_adds 5 none) 1 G dX5 ad hp0 [.ref (ad 40), vL a1, vI a2] M none out :=
  MR.of (by decide) (Nat.le_of_ble_eq_true rfl) rfl (fun p e s m below meth c ls X hM hl => wb_X5_adds X hE hM hl)
def f_X5_totals_L7 (N : Nat)  (k : RM → Int → Int → Int → Option RM) : Nat → RM → Int → Int → Int → Option RM
  | 0, _, _, _, _ => none
  | n + 1, M, x1, x3, x4 =>
    ob (f_X5_many M) fun v1 => if w32 v1 ≤ w32 x4 then (k M x1 x3 x4) else (jn (up2 M 40 24 0) fun M2 => jn (up2 M2 40 25 0) fun M3 => ob (gA 25 M3 1 x4) fun v4 => ob (gA 25 M3 14 x4) fun v5 => ob (f_X5_adds N M3 v4 v5) fun M6 => jn (fun (v8 : Int) => jn (iOr x3 v8) fun v9 => jn (x1 + (M6 40 24)) fun v10 => jn (x4 + 1) fun v11 => f_X5_totals_L7 N  k n M6 v10 v9 v11) fun kj7 => if ¬ w32 (M6 40 25) = 0 then (kj7 1) else (ob (f_X5_isBeyond M6 x1 (M6 40 24)) fun v12 => if w32 v12 = 0 then (kj7 0) else (kj7 1)))
def f_X5_totals (N : Nat) (M : RM)  : Option RM :=
  f_X5_totals_L7 N  (fun (M13 : RM) (v14 : Int) (v15 : Int) (v16 : Int) => jn (up2 M13 40 24 v14) fun M17 => ob (tz v15) fun v18 => jn (up2 M17 40 25 v18) fun M19 => some M19) N M 0 0 0
theorem hd_X5_totals : yX5_totals.cls = RX5 ∧ yX5_totals.cls ≠ "java/lang/invoke/MethodHandle" ∧ yX5_totals.cls ≠ "java/lang/invoke/VarHandle" ∧ (parseMethodDescriptor yX5_totals.desc).map (fun d => d.parameters.length) = some 0 := by decide +kernel
theorem wl_X5_totals_7 {p : Program} {l : Launch} {e : Env} {s : State} {m : MethodId} {args : Array Value} {below : List Frame} {meth : Method} {c : Code} {G : GG} {ad : Nat → Nat} {hp0 : HP} (X : CX p s m args meth c cX5_totals 5 RX5 none G) {N : Nat}   {k : RM → Int → Int → Int → Option RM} {out : RM} : ∀ (n : Nat) (M : RM) (x1 : Int) (x3 : Int) (x4 : Int) (H : Heap) (locs : List Loc) (ls : Array Slot) (hE : f_X5_totals_L7 N  k n M x1 x3 x4 = some out) (hM : RW G dX5 ad hp0 M H locs) (hl : lv_has ls 5 [(0, .ref (ad 40)), (1, vL x1), (3, vI x3), (4, vI x4)]) (hk : ∀ (M : RM) (x1 : Int) (x3 : Int) (x4 : Int) (H : Heap) (locs : List Loc) (ls : Array Slot), RW G dX5 ad hp0 M H locs → lv_has ls 5 [(0, .ref (ad 40)), (1, vL x1), (3, vI x3), (4, vI x4)] → k M x1 x3 x4 = some out → W p l e (rmD 2) s m args below meth c H locs 0 0 (QR below G dX5 ad hp0 args s none out) (F0 m 83 ls [])), W p l e (rmD 2) s m args below meth c H locs 0 0 (QR below G dX5 ad hp0 args s none out) (F0 m 7 ls []) := by
  intro n
  induction n with
  | zero =>
    intro M x1 x3 x4 H locs ls hE hM hl hk
    unfold f_X5_totals_L7 at hE
    cases hE
  | succ n ih =>
    intro M x1 x3 x4 H locs ls hE hM hl hk
    unfold f_X5_totals_L7 at hE
    refine e_iload X hl 3 rfl dX5_totals_7 ?_
    refine e_aload_n X hl 0 rfl dX5_totals_9 rfl ?_
    obtain ⟨v1, h, hE⟩ := ob_some hE
    refine r_callV1 X hM 40 rfl ck_X5 (rest := [vI x4]) (met_X5_many l G ad hp0 M h) (cwV 0 X.ht (lw_V q3206 q3208 qs77 q170 q3209) rfl rfl rfl hd_X5_many (cxR (by decide) (by decide))) rfl hl.1 rfl (Nat.le_of_ble_eq_true rfl) dX5_totals_10 ⟨Nat.le_refl _, Nat.le_refl _⟩ (fun H locs hM => ?_)
    refine e_icmp_ge X (w32 x4) (w32 v1) rfl rfl hE dX5_totals_13 rfl (fun hE => ?_) (fun hE => ?_)
    · exact hk M x1 x3 x4 _ _ _ hM (lv_sub hl [0, 1, 2, 3] rfl) hE
    · refine e_aload_n X hl 0 rfl dX5_totals_16 rfl ?_
      refine e_lconst X 0 dX5_totals_17 (by decide) ?_
      refine r_putJ X hM ck_X5 40 24 rfl rfl (by decide) q3058 rfl rfl hE rfl dX5_totals_18 (fun M2 hE H locs hM => ?_)
      refine e_aload_n X hl 0 rfl dX5_totals_21 rfl ?_
      refine e_iconst X dX5_totals_22 ?_
      refine r_putZ X hM ck_X5 40 25 rfl rfl (by decide) q3059 rfl rfl hE (by decide) rfl dX5_totals_23 (fun M3 hE H locs hM => ?_)
      refine e_aload_n X hl 0 rfl dX5_totals_26 rfl ?_
      refine e_aload_n X hl 0 rfl dX5_totals_27 rfl ?_
      refine r_getR X hM ck_X5 40 1 rfl rfl (by decide) q3035 rfl dX5_totals_28 ?_
      refine e_iload X hl 3 rfl dX5_totals_31 ?_
      refine r_lald X hM 1 rfl (Nat.le_of_ble_eq_true rfl) hE dX5_totals_33 (fun v4 hE => ?_)
      refine e_aload_n X hl 0 rfl dX5_totals_34 rfl ?_
      refine r_getR X hM ck_X5 40 14 rfl rfl (by decide) q3048 rfl dX5_totals_35 ?_
      refine e_iload X hl 3 rfl dX5_totals_38 ?_
      refine r_iald X hM 14 rfl (Nat.le_of_ble_eq_true rfl) hE dX5_totals_40 (fun v5 hE => ?_)
      obtain ⟨M6, h, hE⟩ := ob_some hE
      refine r_callV0 X hM 40 rfl ck_X5 (rest := []) (met_X5_adds l G ad hp0 M3 v4 v5 h) (cwV 2 X.ht (lw_V q3367 q3369 qs108 q170 q3370) rfl rfl rfl hd_X5_adds (cxR (by decide) (by decide))) rfl hl.1 rfl (Nat.le_of_ble_eq_true rfl) dX5_totals_41 ⟨Nat.le_refl _, Nat.le_refl _⟩ (fun H locs hM => ?_)
      refine e_iload_n X hl 2 rfl dX5_totals_44 rfl ?_
      refine e_aload_n X hl 0 rfl dX5_totals_45 rfl ?_
      refine r_getI X hM ck_X5 40 25 rfl rfl (by decide) q3059 rfl dX5_totals_46 ?_
      obtain ⟨kj7, hkj7, hE⟩ := jn_ex hE
      have hjkj7 : ∀ (v8 : Int) (H : Heap) (locs : List Loc) (ls : Array Slot), RW G dX5 ad hp0 M6 H locs → lv_has ls 5 [(0, .ref (ad 40)), (1, vL x1), (4, vI x4)] → kj7 v8 = some out → W p l e (rmD 2) s m args below meth c H locs 0 0 (QR below G dX5 ad hp0 args s none out) (F0 m 68 ls [vI v8, vI x3]) := by
        intro v8 H locs ls hM hl hE
        subst hkj7
        refine e_ior X dX5_totals_68 ?_
        refine e_top hE (fun v9 hE => ?_)
        refine e_istore_n X hl [(3, vI v9), (0, .ref (ad 40)), (1, vL x1), (4, vI x4)] dX5_totals_69 rfl (by decide) rfl (fun ls hl => ?_)
        refine e_lload_n X hl 2 rfl dX5_totals_70 rfl ?_
        refine e_aload_n X hl 1 rfl dX5_totals_71 rfl ?_
        refine r_getJ X hM ck_X5 40 24 rfl rfl (by decide) q3058 rfl dX5_totals_72 ?_
        refine e_ladd X dX5_totals_75 ?_
        refine e_topl hE (fun v10 hE => ?_)
        refine e_lstore_n X hl [(1, vL v10), (3, vI v9), (0, .ref (ad 40)), (4, vI x4)] dX5_totals_76 rfl (by decide) rfl (fun ls hl => ?_)
        refine e_iinc X hl 3 hE (fun v11 => [(4, vI v11), (1, vL v10), (3, vI v9), (0, .ref (ad 40))]) rfl dX5_totals_77 (by decide) (fun _ => rfl) (fun v11 hE ls hl => ?_)
        refine e_goto X dX5_totals_80 rfl ?_
        exact ih M6 v10 v9 v11 _ _ _ hE hM (lv_sub hl [3, 1, 2, 0] rfl) hk
      refine e_if_ne X (w32 (M6 40 25)) rfl hE dX5_totals_49 rfl (fun hE => ?_) (fun hE => ?_)
      · refine e_iconst X dX5_totals_63 ?_
        refine e_goto X dX5_totals_64 rfl ?_
        exact hjkj7 1 _ _ _ hM (lv_sub hl [0, 1, 3] rfl) hE
      · refine e_lload_n X hl 1 rfl dX5_totals_52 rfl ?_
        refine e_aload_n X hl 0 rfl dX5_totals_53 rfl ?_
        refine r_getJ X hM ck_X5 40 24 rfl rfl (by decide) q3058 rfl dX5_totals_54 ?_
        obtain ⟨v12, h, hE⟩ := ob_some hE
        refine r_callS1 X hM (rest := [vI x3]) (met_X5_isBeyond l G ad hp0 M6 x1 (M6 40 24) h) (va_cwS 2 X.ht (lw_S q3371 q3372 q170 q3373) rfl rfl rfl hd_X5_isBeyond (cxR (by decide) (by decide))) rfl hl.1 rfl (Nat.le_of_ble_eq_true rfl) dX5_totals_57 ⟨Nat.le_refl _, Nat.le_refl _⟩ (fun H locs hM => ?_)
        refine e_if_eq X (w32 v12) rfl hE dX5_totals_60 rfl (fun hE => ?_) (fun hE => ?_)
        · refine e_iconst X dX5_totals_67 ?_
          exact hjkj7 0 _ _ _ hM (lv_sub hl [0, 1, 3] rfl) hE
        · refine e_iconst X dX5_totals_63 ?_
          refine e_goto X dX5_totals_64 rfl ?_
          exact hjkj7 1 _ _ _ hM (lv_sub hl [0, 1, 3] rfl) hE
theorem wb_X5_totals {p : Program} {l : Launch} {e : Env} {s : State} {m : MethodId} {args : Array Value} {below : List Frame} {meth : Method} {c : Code} {G : GG} {ad : Nat → Nat} {hp0 : HP} (X : CX p s m args meth c cX5_totals 5 RX5 none G) {N : Nat} {M : RM}   {out : RM} (hE : f_X5_totals N M = some out) {H : Heap} {locs : List Loc} {ls : Array Slot} (hM : RW G dX5 ad hp0 M H locs) (hl : lv_has ls 5 [(0, .ref (ad 40))]) : W p l e (rmD 2) s m args below meth c H locs 0 0 (QR below G dX5 ad hp0 args s none out) (F0 m 0 ls []) := by
  unfold f_X5_totals at hE
  refine e_lconst X 0 dX5_totals_0 (by decide) ?_
  refine e_lstore_n X hl [(1, vL 0), (0, .ref (ad 40))] dX5_totals_1 rfl (by decide) rfl (fun ls hl => ?_)
  refine e_iconst X dX5_totals_2 ?_
  refine e_istore_n X hl [(3, vI 0), (1, vL 0), (0, .ref (ad 40))] dX5_totals_3 rfl (by decide) rfl (fun ls hl => ?_)
  refine e_iconst X dX5_totals_4 ?_
  refine e_istore X hl [(4, vI 0), (3, vI 0), (1, vL 0), (0, .ref (ad 40))] dX5_totals_5 (by decide) rfl (fun ls hl => ?_)
  refine wl_X5_totals_7 X _ M 0 0 0 _ _ _ hE hM (lv_sub hl [3, 2, 1, 0] rfl) (fun M13 v14 v15 v16 H locs ls hM hl hE => ?_)
  refine e_aload_n X hl 0 rfl dX5_totals_83 rfl ?_
  refine e_lload_n X hl 1 rfl dX5_totals_84 rfl ?_
  refine r_putJ X hM ck_X5 40 24 rfl rfl (by decide) q3058 rfl rfl hE rfl dX5_totals_85 (fun M17 hE H locs hM => ?_)
  refine e_aload_n X hl 0 rfl dX5_totals_88 rfl ?_
  refine e_iload_n X hl 2 rfl dX5_totals_89 rfl ?_
  obtain ⟨v18, hz, hE⟩ := ob_some hE
  obtain ⟨hz, hz2⟩ := tz_some hz
  rw [hz2] at hE
  refine r_putZ X hM ck_X5 40 25 rfl rfl (by decide) q3059 rfl rfl hE hz rfl dX5_totals_90 (fun M19 hE H locs hM => ?_)
  cases hE
  exact r_vret X hM dX5_totals_93
theorem met_X5_totals (l : Launch) (G : GG) (ad : Nat → Nat) (hp0 : HP) {N : Nat} (M : RM)   {out : RM} (hE : f_X5_totals N M = some out) : MR l yX5_totals (ws_ yX5_totals cX5_totals 5 none) 2 G dX5 ad hp0 [.ref (ad 40)] M none out :=
  MR.of (by decide) (Nat.le_of_ble_eq_true rfl) rfl (fun p e s m below meth c ls X hM hl => wb_X5_totals X hE hM hl)
def f_X5_is_2 (N : Nat) (M : RM)  : Option (Int × RM) :=
  ob2 (f_X5_flows N M) fun v1 M2 => if ¬ w32 v1 = 0 then (ob (f_X5_totals N M2) fun M3 => if w32 (M3 40 25) = 0 then (some (1, M3)) else (some ((-6), M3))) else (some ((-3), M2))
theorem hd_X5_is_2 : yX5_is_2.cls = RX5 ∧ yX5_is_2.cls ≠ "java/lang/invoke/MethodHandle" ∧ yX5_is_2.cls ≠ "java/lang/invoke/VarHandle" ∧ (parseMethodDescriptor yX5_is_2.desc).map (fun d => d.parameters.length) = some 0 := by decide +kernel
theorem wb_X5_is_2 {p : Program} {l : Launch} {e : Env} {s : State} {m : MethodId} {args : Array Value} {below : List Frame} {meth : Method} {c : Code} {G : GG} {ad : Nat → Nat} {hp0 : HP} (X : CX p s m args meth c cX5_is_2 1 RX5 (some .int) G) {N : Nat} {M : RM}   {out : (Int × RM)} (hE : f_X5_is_2 N M = some out) {H : Heap} {locs : List Loc} {ls : Array Slot} (hM : RW G dX5 ad hp0 M H locs) (hl : lv_has ls 1 [(0, .ref (ad 40))]) : W p l e (rmD 6) s m args below meth c H locs 0 0 (QR below G dX5 ad hp0 args s (some (vI out.1)) out.2) (F0 m 0 ls []) := by
  unfold f_X5_is_2 at hE
  refine e_aload_n X hl 0 rfl dX5_is_2_0 rfl ?_
  obtain ⟨v1, M2, h, hE⟩ := ob2_some hE
  refine r_callV1 X hM 40 rfl ck_X5 (rest := []) (met_X5_flows l G ad hp0 M h) (cwV 0 X.ht (lw_V q3310 q3312 qs94 q170 q3313) rfl rfl rfl hd_X5_flows (cxR (by decide) (by decide))) rfl hl.1 rfl (Nat.le_of_ble_eq_true rfl) dX5_is_2_1 ⟨Nat.le_refl _, Nat.le_refl _⟩ (fun H locs hM => ?_)
  refine e_if_ne X (w32 v1) rfl hE dX5_is_2_4 rfl (fun hE => ?_) (fun hE => ?_)
  · refine e_aload_n X hl 0 rfl dX5_is_2_10 rfl ?_
    obtain ⟨M3, h, hE⟩ := ob_some hE
    refine r_callV0 X hM 40 rfl ck_X5 (rest := []) (met_X5_totals l G ad hp0 M2 h) (cwV 0 X.ht (lw_V q3363 q3365 qs107 q170 q3366) rfl rfl rfl hd_X5_totals (cxR (by decide) (by decide))) rfl hl.1 rfl (Nat.le_of_ble_eq_true rfl) dX5_is_2_11 ⟨Nat.le_refl _, Nat.le_refl _⟩ (fun H locs hM => ?_)
    refine e_aload_n X hl 0 rfl dX5_is_2_14 rfl ?_
    refine r_getI X hM ck_X5 40 25 rfl rfl (by decide) q3059 rfl dX5_is_2_15 ?_
    refine e_if_eq X (w32 (M3 40 25)) rfl hE dX5_is_2_18 rfl (fun hE => ?_) (fun hE => ?_)
    · refine e_iconst X dX5_is_2_26 ?_
      cases hE
      exact r_zret (x := 1) X hM rfl dX5_is_2_27
    · refine e_bipush X dX5_is_2_21 (by decide) ?_
      refine e_goto X dX5_is_2_23 rfl ?_
      cases hE
      exact r_zret (x := (-6)) X hM rfl dX5_is_2_27
  · refine e_bipush X dX5_is_2_7 (by decide) ?_
    cases hE
    exact r_zret (x := (-3)) X hM rfl dX5_is_2_9
theorem met_X5_is_2 (l : Launch) (G : GG) (ad : Nat → Nat) (hp0 : HP) {N : Nat} (M : RM)   {out : (Int × RM)} (hE : f_X5_is_2 N M = some out) : MR l yX5_is_2 (ws_ yX5_is_2 cX5_is_2 1 (some .int)) 6 G dX5 ad hp0 [.ref (ad 40)] M (some (vI out.1)) out.2 :=
  MR.of (by decide) (Nat.le_of_ble_eq_true rfl) rfl (fun p e s m below meth c ls X hM hl => wb_X5_is_2 X hE hM hl)
def f_X5_flow (N : Nat) (M : RM) (a1 : Int) : Option (Int × RM) :=
  ob (f_X5_isRoad M a1) fun v1 => if ¬ w32 v1 = 0 then (ob2 (f_X5_flows N M) fun v2 M3 => if w32 v2 = 0 then (some ((-3), M3)) else (ob (gA 25 M3 14 a1) fun v4 => some (v4, M3))) else (some ((-1), M))
theorem hd_X5_flow : yX5_flow.cls = RX5 ∧ yX5_flow.cls ≠ "java/lang/invoke/MethodHandle" ∧ yX5_flow.cls ≠ "java/lang/invoke/VarHandle" ∧ (parseMethodDescriptor yX5_flow.desc).map (fun d => d.parameters.length) = some 1 := by decide +kernel
theorem wb_X5_flow {p : Program} {l : Launch} {e : Env} {s : State} {m : MethodId} {args : Array Value} {below : List Frame} {meth : Method} {c : Code} {G : GG} {ad : Nat → Nat} {hp0 : HP} (X : CX p s m args meth c cX5_flow 2 RX5 (some .int) G) {N : Nat} {M : RM} {a1 : Int}   {out : (Int × RM)} (hE : f_X5_flow N M a1 = some out) {H : Heap} {locs : List Loc} {ls : Array Slot} (hM : RW G dX5 ad hp0 M H locs) (hl : lv_has ls 2 [(0, .ref (ad 40)), (1, vI a1)]) : W p l e (rmD 6) s m args below meth c H locs 0 0 (QR below G dX5 ad hp0 args s (some (vI out.1)) out.2) (F0 m 0 ls []) := by
  unfold f_X5_flow at hE
  refine e_aload_n X hl 0 rfl dX5_flow_0 rfl ?_
  refine e_iload_n X hl 1 rfl dX5_flow_1 rfl ?_
  obtain ⟨v1, h, hE⟩ := ob_some hE
  refine r_callV1 X hM 40 rfl ck_X5 (rest := []) (met_X5_isRoad l G ad hp0 M a1 h) (cwV 1 X.ht (lw_V q3218 q3220 qs79 q170 q3221) rfl rfl rfl hd_X5_isRoad (cxR (by decide) (by decide))) rfl hl.1 rfl (Nat.le_of_ble_eq_true rfl) dX5_flow_2 ⟨Nat.le_refl _, Nat.le_refl _⟩ (fun H locs hM => ?_)
  refine e_if_ne X (w32 v1) rfl hE dX5_flow_5 rfl (fun hE => ?_) (fun hE => ?_)
  · refine e_aload_n X hl 0 rfl dX5_flow_10 rfl ?_
    obtain ⟨v2, M3, h, hE⟩ := ob2_some hE
    refine r_callV1 X hM 40 rfl ck_X5 (rest := []) (met_X5_flows l G ad hp0 M h) (cwV 0 X.ht (lw_V q3310 q3312 qs94 q170 q3313) rfl rfl rfl hd_X5_flows (cxR (by decide) (by decide))) rfl hl.1 rfl (Nat.le_of_ble_eq_true rfl) dX5_flow_11 ⟨Nat.le_refl _, Nat.le_refl _⟩ (fun H locs hM => ?_)
    refine e_if_eq X (w32 v2) rfl hE dX5_flow_14 rfl (fun hE => ?_) (fun hE => ?_)
    · refine e_bipush X dX5_flow_26 (by decide) ?_
      cases hE
      exact r_zret (x := (-3)) X hM rfl dX5_flow_28
    · refine e_aload_n X hl 0 rfl dX5_flow_17 rfl ?_
      refine r_getR X hM ck_X5 40 14 rfl rfl (by decide) q3048 rfl dX5_flow_18 ?_
      refine e_iload_n X hl 1 rfl dX5_flow_21 rfl ?_
      refine r_iald X hM 14 rfl (Nat.le_of_ble_eq_true rfl) hE dX5_flow_22 (fun v4 hE => ?_)
      refine e_goto X dX5_flow_23 rfl ?_
      cases hE
      exact r_zret X hM rfl dX5_flow_28
  · refine e_iconst X dX5_flow_8 ?_
    cases hE
    exact r_zret (x := (-1)) X hM rfl dX5_flow_9
theorem met_X5_flow (l : Launch) (G : GG) (ad : Nat → Nat) (hp0 : HP) {N : Nat} (M : RM) (a1 : Int)  {out : (Int × RM)} (hE : f_X5_flow N M a1 = some out) : MR l yX5_flow (ws_ yX5_flow cX5_flow 2 (some .int)) 6 G dX5 ad hp0 [.ref (ad 40), vI a1] M (some (vI out.1)) out.2 :=
  MR.of (by decide) (Nat.le_of_ble_eq_true rfl) rfl (fun p e s m below meth c ls X hM hl => wb_X5_flow X hE hM hl)
def f_X5_isTotal (N : Nat) (M : RM)  : Option (Int × RM) :=
  ob2 (f_X5_flows N M) fun v1 M2 => if ¬ w32 v1 = 0 then (ob (f_X5_totals N M2) fun M3 => if ¬ w32 (M3 40 25) = 0 then (some (0, M3)) else (some (1, M3))) else (some (0, M2))
theorem hd_X5_isTotal : yX5_isTotal.cls = RX5 ∧ yX5_isTotal.cls ≠ "java/lang/invoke/MethodHandle" ∧ yX5_isTotal.cls ≠ "java/lang/invoke/VarHandle" ∧ (parseMethodDescriptor yX5_isTotal.desc).map (fun d => d.parameters.length) = some 0 := by decide +kernel
theorem wb_X5_isTotal {p : Program} {l : Launch} {e : Env} {s : State} {m : MethodId} {args : Array Value} {below : List Frame} {meth : Method} {c : Code} {G : GG} {ad : Nat → Nat} {hp0 : HP} (X : CX p s m args meth c cX5_isTotal 1 RX5 (some .boolean) G) {N : Nat} {M : RM}   {out : (Int × RM)} (hE : f_X5_isTotal N M = some out) {H : Heap} {locs : List Loc} {ls : Array Slot} (hM : RW G dX5 ad hp0 M H locs) (hl : lv_has ls 1 [(0, .ref (ad 40))]) : W p l e (rmD 6) s m args below meth c H locs 0 0 (QR below G dX5 ad hp0 args s (some (vI out.1)) out.2) (F0 m 0 ls []) := by
  unfold f_X5_isTotal at hE
  refine e_aload_n X hl 0 rfl dX5_isTotal_0 rfl ?_
  obtain ⟨v1, M2, h, hE⟩ := ob2_some hE
  refine r_callV1 X hM 40 rfl ck_X5 (rest := []) (met_X5_flows l G ad hp0 M h) (cwV 0 X.ht (lw_V q3310 q3312 qs94 q170 q3313) rfl rfl rfl hd_X5_flows (cxR (by decide) (by decide))) rfl hl.1 rfl (Nat.le_of_ble_eq_true rfl) dX5_isTotal_1 ⟨Nat.le_refl _, Nat.le_refl _⟩ (fun H locs hM => ?_)
  refine e_if_ne X (w32 v1) rfl hE dX5_isTotal_4 rfl (fun hE => ?_) (fun hE => ?_)
  · refine e_aload_n X hl 0 rfl dX5_isTotal_9 rfl ?_
    obtain ⟨M3, h, hE⟩ := ob_some hE
    refine r_callV0 X hM 40 rfl ck_X5 (rest := []) (met_X5_totals l G ad hp0 M2 h) (cwV 0 X.ht (lw_V q3363 q3365 qs107 q170 q3366) rfl rfl rfl hd_X5_totals (cxR (by decide) (by decide))) rfl hl.1 rfl (Nat.le_of_ble_eq_true rfl) dX5_isTotal_10 ⟨Nat.le_refl _, Nat.le_refl _⟩ (fun H locs hM => ?_)
    refine e_aload_n X hl 0 rfl dX5_isTotal_13 rfl ?_
    refine r_getI X hM ck_X5 40 25 rfl rfl (by decide) q3059 rfl dX5_isTotal_14 ?_
    refine e_if_ne X (w32 (M3 40 25)) rfl hE dX5_isTotal_17 rfl (fun hE => ?_) (fun hE => ?_)
    · refine e_iconst X dX5_isTotal_24 ?_
      cases hE
      exact r_zret (x := 0) X hM rfl dX5_isTotal_25
    · refine e_iconst X dX5_isTotal_20 ?_
      refine e_goto X dX5_isTotal_21 rfl ?_
      cases hE
      exact r_zret (x := 1) X hM rfl dX5_isTotal_25
  · refine e_iconst X dX5_isTotal_7 ?_
    cases hE
    exact r_zret (x := 0) X hM rfl dX5_isTotal_8
theorem met_X5_isTotal (l : Launch) (G : GG) (ad : Nat → Nat) (hp0 : HP) {N : Nat} (M : RM)   {out : (Int × RM)} (hE : f_X5_isTotal N M = some out) : MR l yX5_isTotal (ws_ yX5_isTotal cX5_isTotal 1 (some .boolean)) 6 G dX5 ad hp0 [.ref (ad 40)] M (some (vI out.1)) out.2 :=
  MR.of (by decide) (Nat.le_of_ble_eq_true rfl) rfl (fun p e s m below meth c ls X hM hl => wb_X5_isTotal X hE hM hl)
def f_X5_total (N : Nat) (M : RM)  : Option (Int × RM) :=
  ob2 (f_X5_isTotal N M) fun v1 M2 => if w32 v1 = 0 then (some ((-9223372036854775808), M2)) else (some (M2 40 24, M2))
theorem hd_X5_total : yX5_total.cls = RX5 ∧ yX5_total.cls ≠ "java/lang/invoke/MethodHandle" ∧ yX5_total.cls ≠ "java/lang/invoke/VarHandle" ∧ (parseMethodDescriptor yX5_total.desc).map (fun d => d.parameters.length) = some 0 := by decide +kernel
theorem wb_X5_total {p : Program} {l : Launch} {e : Env} {s : State} {m : MethodId} {args : Array Value} {below : List Frame} {meth : Method} {c : Code} {G : GG} {ad : Nat → Nat} {hp0 : HP} (X : CX p s m args meth c cX5_total 1 RX5 (some .long) G) {N : Nat} {M : RM}   {out : (Int × RM)} (hE : f_X5_total N M = some out) {H : Heap} {locs : List Loc} {ls : Array Slot} (hM : RW G dX5 ad hp0 M H locs) (hl : lv_has ls 1 [(0, .ref (ad 40))]) : W p l e (rmD 7) s m args below meth c H locs 0 0 (QR below G dX5 ad hp0 args s (some (vL out.1)) out.2) (F0 m 0 ls []) := by
  unfold f_X5_total at hE
  refine e_aload_n X hl 0 rfl dX5_total_0 rfl ?_
  obtain ⟨v1, M2, h, hE⟩ := ob2_some hE
  refine r_callV1 X hM 40 rfl ck_X5 (rest := []) (met_X5_isTotal l G ad hp0 M h) (cwV 0 X.ht (lw_V q3382 q3384 qs109 q170 q3385) rfl rfl rfl hd_X5_isTotal (cxR (by decide) (by decide))) rfl hl.1 rfl (Nat.le_of_ble_eq_true rfl) dX5_total_1 ⟨Nat.le_refl _, Nat.le_refl _⟩ (fun H locs hM => ?_)
  refine e_if_eq X (w32 v1) rfl hE dX5_total_4 rfl (fun hE => ?_) (fun hE => ?_)
  · refine e_ldc2 X (-9223372036854775808) q3250 (by decide) dX5_total_14 ?_
    cases hE
    exact r_lret X hM dX5_total_17
  · refine e_aload_n X hl 0 rfl dX5_total_7 rfl ?_
    refine r_getJ X hM ck_X5 40 24 rfl rfl (by decide) q3058 rfl dX5_total_8 ?_
    refine e_goto X dX5_total_11 rfl ?_
    cases hE
    exact r_lret X hM dX5_total_17
theorem met_X5_total (l : Launch) (G : GG) (ad : Nat → Nat) (hp0 : HP) {N : Nat} (M : RM)   {out : (Int × RM)} (hE : f_X5_total N M = some out) : MR l yX5_total (ws_ yX5_total cX5_total 1 (some .long)) 7 G dX5 ad hp0 [.ref (ad 40)] M (some (vL out.1)) out.2 :=
  MR.of (by decide) (Nat.le_of_ble_eq_true rfl) rfl (fun p e s m below meth c ls X hM hl => wb_X5_total X hE hM hl)
def f_X5_price (N : Nat) (M : RM) (a1 : Int) : Option (Int × RM) :=
  ob (f_X5_isTown M a1) fun v1 => if w32 v1 = 0 then (some ((-9223372036854775808), M)) else (ob2 (f_X5_flows N M) fun v2 M3 => if ¬ w32 v2 = 0 then (ob (f_X5_reaches N M3 0) fun M4 => ob (gA 8 M4 16 a1) fun v5 => if ¬ w64 v5 = 9223372036854775807 then (ob (gA 8 M4 16 a1) fun v6 => some (v6, M4)) else (some ((-9223372036854775808), M4))) else (some ((-9223372036854775808), M3)))
theorem hd_X5_price : yX5_price.cls = RX5 ∧ yX5_price.cls ≠ "java/lang/invoke/MethodHandle" ∧ yX5_price.cls ≠ "java/lang/invoke/VarHandle" ∧ (parseMethodDescriptor yX5_price.desc).map (fun d => d.parameters.length) = some 1 := by decide +kernel
theorem wb_X5_price {p : Program} {l : Launch} {e : Env} {s : State} {m : MethodId} {args : Array Value} {below : List Frame} {meth : Method} {c : Code} {G : GG} {ad : Nat → Nat} {hp0 : HP} (X : CX p s m args meth c cX5_price 2 RX5 (some .long) G) {N : Nat} {M : RM} {a1 : Int}   {out : (Int × RM)} (hE : f_X5_price N M a1 = some out) {H : Heap} {locs : List Loc} {ls : Array Slot} (hM : RW G dX5 ad hp0 M H locs) (hl : lv_has ls 2 [(0, .ref (ad 40)), (1, vI a1)]) : W p l e (rmD 6) s m args below meth c H locs 0 0 (QR below G dX5 ad hp0 args s (some (vL out.1)) out.2) (F0 m 0 ls []) := by
  unfold f_X5_price at hE
  refine e_aload_n X hl 0 rfl dX5_price_0 rfl ?_
  refine e_iload_n X hl 1 rfl dX5_price_1 rfl ?_
  obtain ⟨v1, h, hE⟩ := ob_some hE
  refine r_callV1 X hM 40 rfl ck_X5 (rest := []) (met_X5_isTown l G ad hp0 M a1 h) (cwV 1 X.ht (lw_V q3183 q3185 qs74 q170 q3186) rfl rfl rfl hd_X5_isTown (cxR (by decide) (by decide))) rfl hl.1 rfl (Nat.le_of_ble_eq_true rfl) dX5_price_2 ⟨Nat.le_refl _, Nat.le_refl _⟩ (fun H locs hM => ?_)
  refine e_if_eq X (w32 v1) rfl hE dX5_price_5 rfl (fun hE => ?_) (fun hE => ?_)
  · refine e_ldc2 X (-9223372036854775808) q3250 (by decide) dX5_price_15 ?_
    cases hE
    exact r_lret X hM dX5_price_18
  · refine e_aload_n X hl 0 rfl dX5_price_8 rfl ?_
    obtain ⟨v2, M3, h, hE⟩ := ob2_some hE
    refine r_callV1 X hM 40 rfl ck_X5 (rest := []) (met_X5_flows l G ad hp0 M h) (cwV 0 X.ht (lw_V q3310 q3312 qs94 q170 q3313) rfl rfl rfl hd_X5_flows (cxR (by decide) (by decide))) rfl hl.1 rfl (Nat.le_of_ble_eq_true rfl) dX5_price_9 ⟨Nat.le_refl _, Nat.le_refl _⟩ (fun H locs hM => ?_)
    refine e_if_ne X (w32 v2) rfl hE dX5_price_12 rfl (fun hE => ?_) (fun hE => ?_)
    · refine e_aload_n X hl 0 rfl dX5_price_19 rfl ?_
      refine e_iconst X dX5_price_20 ?_
      obtain ⟨M4, h, hE⟩ := ob_some hE
      refine r_callV0 X hM 40 rfl ck_X5 (rest := []) (met_X5_reaches l G ad hp0 M3 0 h) (cwV 1 X.ht (lw_V q3326 q3328 qs98 q170 q3329) rfl rfl rfl hd_X5_reaches (cxR (by decide) (by decide))) rfl hl.1 rfl (Nat.le_of_ble_eq_true rfl) dX5_price_21 ⟨Nat.le_refl _, Nat.le_refl _⟩ (fun H locs hM => ?_)
      refine e_aload_n X hl 0 rfl dX5_price_24 rfl ?_
      refine r_getR X hM ck_X5 40 16 rfl rfl (by decide) q3050 rfl dX5_price_25 ?_
      refine e_iload_n X hl 1 rfl dX5_price_28 rfl ?_
      refine r_lald X hM 16 rfl (Nat.le_of_ble_eq_true rfl) hE dX5_price_29 (fun v5 hE => ?_)
      refine e_ldc2 X 9223372036854775807 q3330 (by decide) dX5_price_30 ?_
      refine e_lcmp_ne X (w64 v5) 9223372036854775807 rfl (by decide) hE dX5_price_33 dX5_price_34 rfl (fun hE => ?_) (fun hE => ?_)
      · refine e_aload_n X hl 0 rfl dX5_price_43 rfl ?_
        refine r_getR X hM ck_X5 40 16 rfl rfl (by decide) q3050 rfl dX5_price_44 ?_
        refine e_iload_n X hl 1 rfl dX5_price_47 rfl ?_
        refine r_lald X hM 16 rfl (Nat.le_of_ble_eq_true rfl) hE dX5_price_48 (fun v6 hE => ?_)
        cases hE
        exact r_lret X hM dX5_price_49
      · refine e_ldc2 X (-9223372036854775808) q3250 (by decide) dX5_price_37 ?_
        refine e_goto X dX5_price_40 rfl ?_
        cases hE
        exact r_lret X hM dX5_price_49
    · refine e_ldc2 X (-9223372036854775808) q3250 (by decide) dX5_price_15 ?_
      cases hE
      exact r_lret X hM dX5_price_18
theorem met_X5_price (l : Launch) (G : GG) (ad : Nat → Nat) (hp0 : HP) {N : Nat} (M : RM) (a1 : Int)  {out : (Int × RM)} (hE : f_X5_price N M a1 = some out) : MR l yX5_price (ws_ yX5_price cX5_price 2 (some .long)) 6 G dX5 ad hp0 [.ref (ad 40), vI a1] M (some (vL out.1)) out.2 :=
  MR.of (by decide) (Nat.le_of_ble_eq_true rfl) rfl (fun p e s m below meth c ls X hM hl => wb_X5_price X hE hM hl)
def f_X5_reduced (N : Nat) (M : RM) (a1 : Int) : Option (Int × RM) :=
  ob (f_X5_isRoad M a1) fun v1 => if w32 v1 = 0 then (some ((-9223372036854775808), M)) else (ob2 (f_X5_flows N M) fun v2 M3 => if ¬ w32 v2 = 0 then (ob (f_X5_reaches N M3 0) fun M4 => ob (f_X5_from M4 a1) fun v5 => ob (gA 8 M4 16 v5) fun v6 => if w64 v6 = 9223372036854775807 then (some ((-9223372036854775808), M4)) else (ob (f_X5_to M4 a1) fun v7 => ob (gA 8 M4 16 v7) fun v8 => if ¬ w64 v8 = 9223372036854775807 then (ob (gA 25 M4 1 a1) fun v9 => ob (f_X5_from M4 a1) fun v10 => ob (gA 8 M4 16 v10) fun v11 => ob (f_X5_to M4 a1) fun v12 => ob (gA 8 M4 16 v12) fun v13 => some ((v9 + v11) - v13, M4)) else (some ((-9223372036854775808), M4)))) else (some ((-9223372036854775808), M3)))
theorem hd_X5_reduced : yX5_reduced.cls = RX5 ∧ yX5_reduced.cls ≠ "java/lang/invoke/MethodHandle" ∧ yX5_reduced.cls ≠ "java/lang/invoke/VarHandle" ∧ (parseMethodDescriptor yX5_reduced.desc).map (fun d => d.parameters.length) = some 1 := by decide +kernel
theorem wb_X5_reduced {p : Program} {l : Launch} {e : Env} {s : State} {m : MethodId} {args : Array Value} {below : List Frame} {meth : Method} {c : Code} {G : GG} {ad : Nat → Nat} {hp0 : HP} (X : CX p s m args meth c cX5_reduced 2 RX5 (some .long) G) {N : Nat} {M : RM} {a1 : Int}   {out : (Int × RM)} (hE : f_X5_reduced N M a1 = some out) {H : Heap} {locs : List Loc} {ls : Array Slot} (hM : RW G dX5 ad hp0 M H locs) (hl : lv_has ls 2 [(0, .ref (ad 40)), (1, vI a1)]) : W p l e (rmD 6) s m args below meth c H locs 0 0 (QR below G dX5 ad hp0 args s (some (vL out.1)) out.2) (F0 m 0 ls []) := by
  unfold f_X5_reduced at hE
  refine e_aload_n X hl 0 rfl dX5_reduced_0 rfl ?_
  refine e_iload_n X hl 1 rfl dX5_reduced_1 rfl ?_
  obtain ⟨v1, h, hE⟩ := ob_some hE
  refine r_callV1 X hM 40 rfl ck_X5 (rest := []) (met_X5_isRoad l G ad hp0 M a1 h) (cwV 1 X.ht (lw_V q3218 q3220 qs79 q170 q3221) rfl rfl rfl hd_X5_isRoad (cxR (by decide) (by decide))) rfl hl.1 rfl (Nat.le_of_ble_eq_true rfl) dX5_reduced_2 ⟨Nat.le_refl _, Nat.le_refl _⟩ (fun H locs hM => ?_)
  refine e_if_eq X (w32 v1) rfl hE dX5_reduced_5 rfl (fun hE => ?_) (fun hE => ?_)
  · refine e_ldc2 X (-9223372036854775808) q3250 (by decide) dX5_reduced_15 ?_
    cases hE
    exact r_lret X hM dX5_reduced_18
  · refine e_aload_n X hl 0 rfl dX5_reduced_8 rfl ?_
    obtain ⟨v2, M3, h, hE⟩ := ob2_some hE
    refine r_callV1 X hM 40 rfl ck_X5 (rest := []) (met_X5_flows l G ad hp0 M h) (cwV 0 X.ht (lw_V q3310 q3312 qs94 q170 q3313) rfl rfl rfl hd_X5_flows (cxR (by decide) (by decide))) rfl hl.1 rfl (Nat.le_of_ble_eq_true rfl) dX5_reduced_9 ⟨Nat.le_refl _, Nat.le_refl _⟩ (fun H locs hM => ?_)
    refine e_if_ne X (w32 v2) rfl hE dX5_reduced_12 rfl (fun hE => ?_) (fun hE => ?_)
    · refine e_aload_n X hl 0 rfl dX5_reduced_19 rfl ?_
      refine e_iconst X dX5_reduced_20 ?_
      obtain ⟨M4, h, hE⟩ := ob_some hE
      refine r_callV0 X hM 40 rfl ck_X5 (rest := []) (met_X5_reaches l G ad hp0 M3 0 h) (cwV 1 X.ht (lw_V q3326 q3328 qs98 q170 q3329) rfl rfl rfl hd_X5_reaches (cxR (by decide) (by decide))) rfl hl.1 rfl (Nat.le_of_ble_eq_true rfl) dX5_reduced_21 ⟨Nat.le_refl _, Nat.le_refl _⟩ (fun H locs hM => ?_)
      refine e_aload_n X hl 0 rfl dX5_reduced_24 rfl ?_
      refine r_getR X hM ck_X5 40 16 rfl rfl (by decide) q3050 rfl dX5_reduced_25 ?_
      refine e_aload_n X hl 0 rfl dX5_reduced_28 rfl ?_
      refine e_iload_n X hl 1 rfl dX5_reduced_29 rfl ?_
      obtain ⟨v5, h, hE⟩ := ob_some hE
      refine r_callV1 X hM 40 rfl ck_X5 (rest := [.ref (ad 16)]) (met_X5_from l G ad hp0 M4 a1 h) (cwV 1 X.ht (lw_V q3222 q3224 qs80 q170 q3225) rfl rfl rfl hd_X5_from (cxR (by decide) (by decide))) rfl hl.1 rfl (Nat.le_of_ble_eq_true rfl) dX5_reduced_30 ⟨Nat.le_refl _, Nat.le_refl _⟩ (fun H locs hM => ?_)
      refine r_lald X hM 16 rfl (Nat.le_of_ble_eq_true rfl) hE dX5_reduced_33 (fun v6 hE => ?_)
      refine e_ldc2 X 9223372036854775807 q3330 (by decide) dX5_reduced_34 ?_
      refine e_lcmp_eq X (w64 v6) 9223372036854775807 rfl (by decide) hE dX5_reduced_37 dX5_reduced_38 rfl (fun hE => ?_) (fun hE => ?_)
      · refine e_ldc2 X (-9223372036854775808) q3250 (by decide) dX5_reduced_58 ?_
        refine e_goto X dX5_reduced_61 rfl ?_
        cases hE
        exact r_lret X hM dX5_reduced_92
      · refine e_aload_n X hl 0 rfl dX5_reduced_41 rfl ?_
        refine r_getR X hM ck_X5 40 16 rfl rfl (by decide) q3050 rfl dX5_reduced_42 ?_
        refine e_aload_n X hl 0 rfl dX5_reduced_45 rfl ?_
        refine e_iload_n X hl 1 rfl dX5_reduced_46 rfl ?_
        obtain ⟨v7, h, hE⟩ := ob_some hE
        refine r_callV1 X hM 40 rfl ck_X5 (rest := [.ref (ad 16)]) (met_X5_to l G ad hp0 M4 a1 h) (cwV 1 X.ht (lw_V q3226 q3228 qs81 q170 q3229) rfl rfl rfl hd_X5_to (cxR (by decide) (by decide))) rfl hl.1 rfl (Nat.le_of_ble_eq_true rfl) dX5_reduced_47 ⟨Nat.le_refl _, Nat.le_refl _⟩ (fun H locs hM => ?_)
        refine r_lald X hM 16 rfl (Nat.le_of_ble_eq_true rfl) hE dX5_reduced_50 (fun v8 hE => ?_)
        refine e_ldc2 X 9223372036854775807 q3330 (by decide) dX5_reduced_51 ?_
        refine e_lcmp_ne X (w64 v8) 9223372036854775807 rfl (by decide) hE dX5_reduced_54 dX5_reduced_55 rfl (fun hE => ?_) (fun hE => ?_)
        · refine e_aload_n X hl 0 rfl dX5_reduced_64 rfl ?_
          refine r_getR X hM ck_X5 40 1 rfl rfl (by decide) q3035 rfl dX5_reduced_65 ?_
          refine e_iload_n X hl 1 rfl dX5_reduced_68 rfl ?_
          refine r_lald X hM 1 rfl (Nat.le_of_ble_eq_true rfl) hE dX5_reduced_69 (fun v9 hE => ?_)
          refine e_aload_n X hl 0 rfl dX5_reduced_70 rfl ?_
          refine r_getR X hM ck_X5 40 16 rfl rfl (by decide) q3050 rfl dX5_reduced_71 ?_
          refine e_aload_n X hl 0 rfl dX5_reduced_74 rfl ?_
          refine e_iload_n X hl 1 rfl dX5_reduced_75 rfl ?_
          obtain ⟨v10, h, hE⟩ := ob_some hE
          refine r_callV1 X hM 40 rfl ck_X5 (rest := [.ref (ad 16), vL v9]) (met_X5_from l G ad hp0 M4 a1 h) (cwV 1 X.ht (lw_V q3222 q3224 qs80 q170 q3225) rfl rfl rfl hd_X5_from (cxR (by decide) (by decide))) rfl hl.1 rfl (Nat.le_of_ble_eq_true rfl) dX5_reduced_76 ⟨Nat.le_refl _, Nat.le_refl _⟩ (fun H locs hM => ?_)
          refine r_lald X hM 16 rfl (Nat.le_of_ble_eq_true rfl) hE dX5_reduced_79 (fun v11 hE => ?_)
          refine e_ladd X dX5_reduced_80 ?_
          refine e_aload_n X hl 0 rfl dX5_reduced_81 rfl ?_
          refine r_getR X hM ck_X5 40 16 rfl rfl (by decide) q3050 rfl dX5_reduced_82 ?_
          refine e_aload_n X hl 0 rfl dX5_reduced_85 rfl ?_
          refine e_iload_n X hl 1 rfl dX5_reduced_86 rfl ?_
          obtain ⟨v12, h, hE⟩ := ob_some hE
          refine r_callV1 X hM 40 rfl ck_X5 (rest := [.ref (ad 16), vL (v9 + v11)]) (met_X5_to l G ad hp0 M4 a1 h) (cwV 1 X.ht (lw_V q3226 q3228 qs81 q170 q3229) rfl rfl rfl hd_X5_to (cxR (by decide) (by decide))) rfl hl.1 rfl (Nat.le_of_ble_eq_true rfl) dX5_reduced_87 ⟨Nat.le_refl _, Nat.le_refl _⟩ (fun H locs hM => ?_)
          refine r_lald X hM 16 rfl (Nat.le_of_ble_eq_true rfl) hE dX5_reduced_90 (fun v13 hE => ?_)
          refine e_lsub X dX5_reduced_91 ?_
          cases hE
          exact r_lret X hM dX5_reduced_92
        · refine e_ldc2 X (-9223372036854775808) q3250 (by decide) dX5_reduced_58 ?_
          refine e_goto X dX5_reduced_61 rfl ?_
          cases hE
          exact r_lret X hM dX5_reduced_92
    · refine e_ldc2 X (-9223372036854775808) q3250 (by decide) dX5_reduced_15 ?_
      cases hE
      exact r_lret X hM dX5_reduced_18
theorem met_X5_reduced (l : Launch) (G : GG) (ad : Nat → Nat) (hp0 : HP) {N : Nat} (M : RM) (a1 : Int)  {out : (Int × RM)} (hE : f_X5_reduced N M a1 = some out) : MR l yX5_reduced (ws_ yX5_reduced cX5_reduced 2 (some .long)) 6 G dX5 ad hp0 [.ref (ad 40), vI a1] M (some (vL out.1)) out.2 :=
  MR.of (by decide) (Nat.le_of_ble_eq_true rfl) rfl (fun p e s m below meth c ls X hM hl => wb_X5_reduced X hE hM hl)
def f_X5_dear_L48 (N : Nat) (M : RM) (b1 : Int) (b2 : Int) (k : Int → Int → Option (Int × RM)) : Nat → Int → Int → Option (Int × RM)
  | 0, _, _ => none
  | n + 1, x3, x4 =>
    ob (f_X5_towns_2 M) fun v7 => if w32 v7 ≤ w32 x4 then (k x3 x4) else (ob (gA 8 M 16 x4) fun v8 => ob (gA 8 M 16 b2) fun v9 => jn (fun (v11 : Int) => jn (x4 + 1) fun v12 => f_X5_dear_L48 N M b1 b2 k n v11 v12) fun kj10 => if w64 v8 < w64 v9 then (jn (x3 + 1) fun v13 => kj10 v13) else (ob (gA 8 M 16 x4) fun v14 => ob (gA 8 M 16 b2) fun v15 => if ¬ w64 v14 = w64 v15 then (kj10 x3) else (if w32 b2 ≤ w32 x4 then (kj10 x3) else (jn (x3 + 1) fun v16 => kj10 v16))))
def f_X5_dear_L35 (N : Nat) (M : RM) (b1 : Int) (k : Int → Option (Int × RM)) : Nat → Int → Option (Int × RM)
  | 0, _ => none
  | n + 1, x2 =>
    ob (f_X5_towns_2 M) fun v6 => if w32 v6 ≤ w32 x2 then (k x2) else (f_X5_dear_L48 N M b1 x2 (fun (v17 : Int) (v18 : Int) => if ¬ w32 v17 = w32 b1 then (jn (x2 + 1) fun v19 => f_X5_dear_L35 N M b1 k n v19) else (some (x2, M))) N 0 0)
def f_X5_dear (N : Nat) (M : RM) (a1 : Int) : Option (Int × RM) :=
  ob (f_X5_towns_2 M) fun v1 => ob (f_X5_in M (w32 a1) 0 (w32 (v1 - 1))) fun v2 => if ¬ w32 v2 = 0 then (ob2 (f_X5_flows N M) fun v3 M4 => if ¬ w32 v3 = 0 then (ob (f_X5_reaches N M4 0) fun M5 => f_X5_dear_L35 N M5 a1 (fun (v20 : Int) => some ((-1), M5)) N 0) else (some ((-3), M4))) else (some ((-1), M))
theorem hd_X5_dear : yX5_dear.cls = RX5 ∧ yX5_dear.cls ≠ "java/lang/invoke/MethodHandle" ∧ yX5_dear.cls ≠ "java/lang/invoke/VarHandle" ∧ (parseMethodDescriptor yX5_dear.desc).map (fun d => d.parameters.length) = some 1 := by decide +kernel
theorem wl_X5_dear_48 {p : Program} {l : Launch} {e : Env} {s : State} {m : MethodId} {args : Array Value} {below : List Frame} {meth : Method} {c : Code} {G : GG} {ad : Nat → Nat} {hp0 : HP} (X : CX p s m args meth c cX5_dear 5 RX5 (some .int) G) {N : Nat} {M : RM} {b1 : Int} {b2 : Int}  {k : Int → Int → Option (Int × RM)} {out : (Int × RM)} : ∀ (n : Nat) (x3 : Int) (x4 : Int) (H : Heap) (locs : List Loc) (ls : Array Slot) (hE : f_X5_dear_L48 N M b1 b2 k n x3 x4 = some out) (hM : RW G dX5 ad hp0 M H locs) (hl : lv_has ls 5 [(0, .ref (ad 40)), (1, vI b1), (2, vI b2), (3, vI x3), (4, vI x4)]) (hk : ∀ (x3 : Int) (x4 : Int) (H : Heap) (locs : List Loc) (ls : Array Slot), RW G dX5 ad hp0 M H locs → lv_has ls 5 [(0, .ref (ad 40)), (1, vI b1), (2, vI b2), (3, vI x3), (4, vI x4)] → k x3 x4 = some out → W p l e (rmD 6) s m args below meth c H locs 0 0 (QR below G dX5 ad hp0 args s (some (vI out.1)) out.2) (F0 m 106 ls [])), W p l e (rmD 6) s m args below meth c H locs 0 0 (QR below G dX5 ad hp0 args s (some (vI out.1)) out.2) (F0 m 48 ls []) := by
  intro n
  induction n with
  | zero =>
    intro x3 x4 H locs ls hE hM hl hk
    unfold f_X5_dear_L48 at hE
    cases hE
  | succ n ih =>
    intro x3 x4 H locs ls hE hM hl hk
    unfold f_X5_dear_L48 at hE
    refine e_iload X hl 4 rfl dX5_dear_48 ?_
    refine e_aload_n X hl 0 rfl dX5_dear_50 rfl ?_
    obtain ⟨v7, h, hE⟩ := ob_some hE
    refine r_callV1 X hM 40 rfl ck_X5 (rest := [vI x4]) (met_X5_towns_2 l G ad hp0 M h) (cwV 0 X.ht (lw_V q3187 q3189 qs75 q170 q3190) rfl rfl rfl hd_X5_towns_2 (cxR (by decide) (by decide))) rfl hl.1 rfl (Nat.le_of_ble_eq_true rfl) dX5_dear_51 ⟨Nat.le_refl _, Nat.le_refl _⟩ (fun H locs hM => ?_)
    refine e_icmp_ge X (w32 x4) (w32 v7) rfl rfl hE dX5_dear_54 rfl (fun hE => ?_) (fun hE => ?_)
    · exact hk x3 x4 _ _ _ hM (lv_sub hl [0, 1, 2, 3, 4] rfl) hE
    · refine e_aload_n X hl 0 rfl dX5_dear_57 rfl ?_
      refine r_getR X hM ck_X5 40 16 rfl rfl (by decide) q3050 rfl dX5_dear_58 ?_
      refine e_iload X hl 4 rfl dX5_dear_61 ?_
      refine r_lald X hM 16 rfl (Nat.le_of_ble_eq_true rfl) hE dX5_dear_63 (fun v8 hE => ?_)
      refine e_aload_n X hl 0 rfl dX5_dear_64 rfl ?_
      refine r_getR X hM ck_X5 40 16 rfl rfl (by decide) q3050 rfl dX5_dear_65 ?_
      refine e_iload_n X hl 2 rfl dX5_dear_68 rfl ?_
      refine r_lald X hM 16 rfl (Nat.le_of_ble_eq_true rfl) hE dX5_dear_69 (fun v9 hE => ?_)
      obtain ⟨kj10, hkj10, hE⟩ := jn_ex hE
      have hjkj10 : ∀ (v11 : Int) (H : Heap) (locs : List Loc) (ls : Array Slot), RW G dX5 ad hp0 M H locs → lv_has ls 5 [(0, .ref (ad 40)), (1, vI b1), (2, vI b2), (3, vI v11), (4, vI x4)] → kj10 v11 = some out → W p l e (rmD 6) s m args below meth c H locs 0 0 (QR below G dX5 ad hp0 args s (some (vI out.1)) out.2) (F0 m 100 ls []) := by
        intro v11 H locs ls hM hl hE
        subst hkj10
        refine e_iinc X hl 4 hE (fun v12 => [(4, vI v12), (0, .ref (ad 40)), (1, vI b1), (2, vI b2), (3, vI v11)]) rfl dX5_dear_100 (by decide) (fun _ => rfl) (fun v12 hE ls hl => ?_)
        refine e_goto X dX5_dear_103 rfl ?_
        exact ih v11 v12 _ _ _ hE hM (lv_sub hl [1, 2, 3, 4, 0] rfl) hk
      refine e_lcmp_lt X (w64 v8) (w64 v9) rfl rfl hE dX5_dear_70 dX5_dear_71 rfl (fun hE => ?_) (fun hE => ?_)
      · refine e_iinc X hl 3 hE (fun v13 => [(3, vI v13), (0, .ref (ad 40)), (1, vI b1), (2, vI b2), (4, vI x4)]) rfl dX5_dear_97 (by decide) (fun _ => rfl) (fun v13 hE ls hl => ?_)
        exact hjkj10 v13 _ _ _ hM (lv_sub hl [1, 2, 3, 0, 4] rfl) hE
      · refine e_aload_n X hl 0 rfl dX5_dear_74 rfl ?_
        refine r_getR X hM ck_X5 40 16 rfl rfl (by decide) q3050 rfl dX5_dear_75 ?_
        refine e_iload X hl 4 rfl dX5_dear_78 ?_
        refine r_lald X hM 16 rfl (Nat.le_of_ble_eq_true rfl) hE dX5_dear_80 (fun v14 hE => ?_)
        refine e_aload_n X hl 0 rfl dX5_dear_81 rfl ?_
        refine r_getR X hM ck_X5 40 16 rfl rfl (by decide) q3050 rfl dX5_dear_82 ?_
        refine e_iload_n X hl 2 rfl dX5_dear_85 rfl ?_
        refine r_lald X hM 16 rfl (Nat.le_of_ble_eq_true rfl) hE dX5_dear_86 (fun v15 hE => ?_)
        refine e_lcmp_ne X (w64 v14) (w64 v15) rfl rfl hE dX5_dear_87 dX5_dear_88 rfl (fun hE => ?_) (fun hE => ?_)
        · exact hjkj10 x3 _ _ _ hM (lv_sub hl [0, 1, 2, 3, 4] rfl) hE
        · refine e_iload X hl 4 rfl dX5_dear_91 ?_
          refine e_iload_n X hl 2 rfl dX5_dear_93 rfl ?_
          refine e_icmp_ge X (w32 x4) (w32 b2) rfl rfl hE dX5_dear_94 rfl (fun hE => ?_) (fun hE => ?_)
          · exact hjkj10 x3 _ _ _ hM (lv_sub hl [0, 1, 2, 3, 4] rfl) hE
          · refine e_iinc X hl 3 hE (fun v16 => [(3, vI v16), (0, .ref (ad 40)), (1, vI b1), (2, vI b2), (4, vI x4)]) rfl dX5_dear_97 (by decide) (fun _ => rfl) (fun v16 hE ls hl => ?_)
            exact hjkj10 v16 _ _ _ hM (lv_sub hl [1, 2, 3, 0, 4] rfl) hE
theorem wl_X5_dear_35 {p : Program} {l : Launch} {e : Env} {s : State} {m : MethodId} {args : Array Value} {below : List Frame} {meth : Method} {c : Code} {G : GG} {ad : Nat → Nat} {hp0 : HP} (X : CX p s m args meth c cX5_dear 5 RX5 (some .int) G) {N : Nat} {M : RM} {b1 : Int}  {k : Int → Option (Int × RM)} {out : (Int × RM)} : ∀ (n : Nat) (x2 : Int) (H : Heap) (locs : List Loc) (ls : Array Slot) (hE : f_X5_dear_L35 N M b1 k n x2 = some out) (hM : RW G dX5 ad hp0 M H locs) (hl : lv_has ls 5 [(0, .ref (ad 40)), (1, vI b1), (2, vI x2)]) (hk : ∀ (x2 : Int) (H : Heap) (locs : List Loc) (ls : Array Slot), RW G dX5 ad hp0 M H locs → lv_has ls 5 [(0, .ref (ad 40)), (1, vI b1), (2, vI x2)] → k x2 = some out → W p l e (rmD 6) s m args below meth c H locs 0 0 (QR below G dX5 ad hp0 args s (some (vI out.1)) out.2) (F0 m 119 ls [])), W p l e (rmD 6) s m args below meth c H locs 0 0 (QR below G dX5 ad hp0 args s (some (vI out.1)) out.2) (F0 m 35 ls []) := by
  intro n
  induction n with
  | zero =>
    intro x2 H locs ls hE hM hl hk
    unfold f_X5_dear_L35 at hE
    cases hE
  | succ n ih =>
    intro x2 H locs ls hE hM hl hk
    unfold f_X5_dear_L35 at hE
    refine e_iload_n X hl 2 rfl dX5_dear_35 rfl ?_
    refine e_aload_n X hl 0 rfl dX5_dear_36 rfl ?_
    obtain ⟨v6, h, hE⟩ := ob_some hE
    refine r_callV1 X hM 40 rfl ck_X5 (rest := [vI x2]) (met_X5_towns_2 l G ad hp0 M h) (cwV 0 X.ht (lw_V q3187 q3189 qs75 q170 q3190) rfl rfl rfl hd_X5_towns_2 (cxR (by decide) (by decide))) rfl hl.1 rfl (Nat.le_of_ble_eq_true rfl) dX5_dear_37 ⟨Nat.le_refl _, Nat.le_refl _⟩ (fun H locs hM => ?_)
    refine e_icmp_ge X (w32 x2) (w32 v6) rfl rfl hE dX5_dear_40 rfl (fun hE => ?_) (fun hE => ?_)
    · exact hk x2 _ _ _ hM (lv_sub hl [0, 1, 2] rfl) hE
    · refine e_iconst X dX5_dear_43 ?_
      refine e_istore_n X hl [(3, vI 0), (0, .ref (ad 40)), (1, vI b1), (2, vI x2)] dX5_dear_44 rfl (by decide) rfl (fun ls hl => ?_)
      refine e_iconst X dX5_dear_45 ?_
      refine e_istore X hl [(4, vI 0), (3, vI 0), (0, .ref (ad 40)), (1, vI b1), (2, vI x2)] dX5_dear_46 (by decide) rfl (fun ls hl => ?_)
      refine wl_X5_dear_48 X _ 0 0 _ _ _ hE hM (lv_sub hl [2, 3, 4, 1, 0] rfl) (fun v17 v18 H locs ls hM hl hE => ?_)
      refine e_iload_n X hl 3 rfl dX5_dear_106 rfl ?_
      refine e_iload_n X hl 1 rfl dX5_dear_107 rfl ?_
      refine e_icmp_ne X (w32 v17) (w32 b1) rfl rfl hE dX5_dear_108 rfl (fun hE => ?_) (fun hE => ?_)
      · refine e_iinc X hl 2 hE (fun v19 => [(2, vI v19), (0, .ref (ad 40)), (1, vI b1), (3, vI v17), (4, vI v18)]) rfl dX5_dear_113 (by decide) (fun _ => rfl) (fun v19 hE ls hl => ?_)
        refine e_goto X dX5_dear_116 rfl ?_
        exact ih v19 _ _ _ hE hM (lv_sub hl [1, 2, 0] rfl) hk
      · refine e_iload_n X hl 2 rfl dX5_dear_111 rfl ?_
        cases hE
        exact r_zret X hM rfl dX5_dear_112
theorem wb_X5_dear {p : Program} {l : Launch} {e : Env} {s : State} {m : MethodId} {args : Array Value} {below : List Frame} {meth : Method} {c : Code} {G : GG} {ad : Nat → Nat} {hp0 : HP} (X : CX p s m args meth c cX5_dear 5 RX5 (some .int) G) {N : Nat} {M : RM} {a1 : Int}   {out : (Int × RM)} (hE : f_X5_dear N M a1 = some out) {H : Heap} {locs : List Loc} {ls : Array Slot} (hM : RW G dX5 ad hp0 M H locs) (hl : lv_has ls 5 [(0, .ref (ad 40)), (1, vI a1)]) : W p l e (rmD 6) s m args below meth c H locs 0 0 (QR below G dX5 ad hp0 args s (some (vI out.1)) out.2) (F0 m 0 ls []) := by
  unfold f_X5_dear at hE
  refine e_iload_n X hl 1 rfl dX5_dear_0 rfl ?_
  refine e_i2l X dX5_dear_1 ?_
  refine e_lconst X 0 dX5_dear_2 (by decide) ?_
  refine e_aload_n X hl 0 rfl dX5_dear_3 rfl ?_
  obtain ⟨v1, h, hE⟩ := ob_some hE
  refine r_callV1 X hM 40 rfl ck_X5 (rest := [vL 0, vL (w32 a1)]) (met_X5_towns_2 l G ad hp0 M h) (cwV 0 X.ht (lw_V q3187 q3189 qs75 q170 q3190) rfl rfl rfl hd_X5_towns_2 (cxR (by decide) (by decide))) rfl hl.1 rfl (Nat.le_of_ble_eq_true rfl) dX5_dear_4 ⟨Nat.le_refl _, Nat.le_refl _⟩ (fun H locs hM => ?_)
  refine e_iconst X dX5_dear_7 ?_
  refine e_isub X dX5_dear_8 ?_
  refine e_i2l X dX5_dear_9 ?_
  obtain ⟨v2, h, hE⟩ := ob_some hE
  refine r_callS1 X hM (rest := []) (met_X5_in l G ad hp0 M (w32 a1) 0 (w32 (v1 - 1)) h) (va_cwS 3 X.ht (lw_S q3172 q3173 q170 q3174) rfl rfl rfl hd_X5_in (cxR (by decide) (by decide))) rfl hl.1 rfl (Nat.le_of_ble_eq_true rfl) dX5_dear_10 ⟨Nat.le_refl _, Nat.le_refl _⟩ (fun H locs hM => ?_)
  refine e_if_ne X (w32 v2) rfl hE dX5_dear_13 rfl (fun hE => ?_) (fun hE => ?_)
  · refine e_aload_n X hl 0 rfl dX5_dear_18 rfl ?_
    obtain ⟨v3, M4, h, hE⟩ := ob2_some hE
    refine r_callV1 X hM 40 rfl ck_X5 (rest := []) (met_X5_flows l G ad hp0 M h) (cwV 0 X.ht (lw_V q3310 q3312 qs94 q170 q3313) rfl rfl rfl hd_X5_flows (cxR (by decide) (by decide))) rfl hl.1 rfl (Nat.le_of_ble_eq_true rfl) dX5_dear_19 ⟨Nat.le_refl _, Nat.le_refl _⟩ (fun H locs hM => ?_)
    refine e_if_ne X (w32 v3) rfl hE dX5_dear_22 rfl (fun hE => ?_) (fun hE => ?_)
    · refine e_aload_n X hl 0 rfl dX5_dear_28 rfl ?_
      refine e_iconst X dX5_dear_29 ?_
      obtain ⟨M5, h, hE⟩ := ob_some hE
      refine r_callV0 X hM 40 rfl ck_X5 (rest := []) (met_X5_reaches l G ad hp0 M4 0 h) (cwV 1 X.ht (lw_V q3326 q3328 qs98 q170 q3329) rfl rfl rfl hd_X5_reaches (cxR (by decide) (by decide))) rfl hl.1 rfl (Nat.le_of_ble_eq_true rfl) dX5_dear_30 ⟨Nat.le_refl _, Nat.le_refl _⟩ (fun H locs hM => ?_)
      refine e_iconst X dX5_dear_33 ?_
      refine e_istore_n X hl [(2, vI 0), (0, .ref (ad 40)), (1, vI a1)] dX5_dear_34 rfl (by decide) rfl (fun ls hl => ?_)
      refine wl_X5_dear_35 X _ 0 _ _ _ hE hM (lv_sub hl [1, 2, 0] rfl) (fun v20 H locs ls hM hl hE => ?_)
      refine e_iconst X dX5_dear_119 ?_
      cases hE
      exact r_zret (x := (-1)) X hM rfl dX5_dear_120
    · refine e_bipush X dX5_dear_25 (by decide) ?_
      cases hE
      exact r_zret (x := (-3)) X hM rfl dX5_dear_27
  · refine e_iconst X dX5_dear_16 ?_
    cases hE
    exact r_zret (x := (-1)) X hM rfl dX5_dear_17
theorem met_X5_dear (l : Launch) (G : GG) (ad : Nat → Nat) (hp0 : HP) {N : Nat} (M : RM) (a1 : Int)  {out : (Int × RM)} (hE : f_X5_dear N M a1 = some out) : MR l yX5_dear (ws_ yX5_dear cX5_dear 5 (some .int)) 6 G dX5 ad hp0 [.ref (ad 40), vI a1] M (some (vI out.1)) out.2 :=
  MR.of (by decide) (Nat.le_of_ble_eq_true rfl) rfl (fun p e s m below meth c ls X hM hl => wb_X5_dear X hE hM hl)
def f_X5_cut_L26 (N : Nat) (M0 : RM) (b1 : Int) (k : Int → Int → Option Int) : Nat → Int → Int → Option Int
  | 0, _, _ => none
  | n + 1, x2, x3 =>
    ob (f_X5_towns_2 M0) fun v3 => if w32 v3 ≤ w32 x3 then (k x2 x3) else (jn (fun (v5 : Int) => jn (x3 + 1) fun v6 => f_X5_cut_L26 N M0 b1 k n v5 v6) fun kj4 => if ¬ w32 (iAnd (iShr b1 x3) 1) = 1 then (kj4 x2) else (ob (gA 110 M0 0 (2 + x3)) fun v7 => jn (x2 + v7) fun v8 => kj4 v8))
def f_X5_cut_L62 (N : Nat) (M0 : RM) (b1 : Int) (k : Int → Int → Option Int) : Nat → Int → Int → Option Int
  | 0, _, _ => none
  | n + 1, x2, x3 =>
    ob (f_X5_many M0) fun v11 => if w32 v11 ≤ w32 x3 then (k x2 x3) else (ob (f_X5_from M0 x3) fun v12 => jn (fun (v14 : Int) => ob (f_X5_to M0 x3) fun v15 => jn (fun (v17 : Int) => jn (fun (v19 : Int) => jn (x2 + v19) fun v20 => jn (x3 + 1) fun v21 => f_X5_cut_L62 N M0 b1 k n v20 v21) fun kj18 => if w32 v14 = 0 then (if w32 v17 = 0 then (kj18 0) else (if ¬ w32 v14 = 0 then (kj18 0) else (ob (f_X5_low M0 x3) fun v22 => kj18 v22))) else (if ¬ w32 v17 = 0 then (if w32 v17 = 0 then (kj18 0) else (if ¬ w32 v14 = 0 then (kj18 0) else (ob (f_X5_low M0 x3) fun v23 => kj18 v23))) else (ob (f_X5_most M0 x3) fun v24 => kj18 (-v24)))) fun kj16 => if ¬ w32 (iAnd (iShr b1 v15) 1) = 1 then (kj16 0) else (kj16 1)) fun kj13 => if ¬ w32 (iAnd (iShr b1 v12) 1) = 1 then (kj13 0) else (kj13 1))
def f_X5_cut_L12 (N : Nat) (M0 : RM)  (k : Int → Option Int) : Nat → Int → Option Int
  | 0, _ => none
  | n + 1, x1 =>
    ob (f_X5_towns_2 M0) fun v2 => if w32 (iShl 1 v2) ≤ w32 x1 then (k x1) else (f_X5_cut_L26 N M0 x1 (fun (v9 : Int) (v10 : Int) => f_X5_cut_L62 N M0 x1 (fun (v25 : Int) (v26 : Int) => if w32 v25 ≤ 0 then (jn (x1 + 1) fun v27 => f_X5_cut_L12 N M0  k n v27) else (some x1)) N v9 0) N 0 0)
def f_X5_cut (N : Nat) (M0 : RM)  : Option Int :=
  ob (f_X5_supplied N M0) fun v1 => if w32 v1 = 0 then (f_X5_cut_L12 N M0  (fun (v28 : Int) => some (-5)) N 0) else (some (-3))
theorem hd_X5_cut : yX5_cut.cls = RX5 ∧ yX5_cut.cls ≠ "java/lang/invoke/MethodHandle" ∧ yX5_cut.cls ≠ "java/lang/invoke/VarHandle" ∧ (parseMethodDescriptor yX5_cut.desc).map (fun d => d.parameters.length) = some 0 := by decide +kernel
theorem wl_X5_cut_26 {p : Program} {l : Launch} {e : Env} {s : State} {m : MethodId} {args : Array Value} {below : List Frame} {meth : Method} {c : Code} {G : GG} {ad : Nat → Nat} {hp0 : HP} {M0 : RM} (X : CX p s m args meth c cX5_cut 6 RX5 (some .int) G) {N : Nat} {b1 : Int}  {k : Int → Int → Option Int} {out : Int} : ∀ (n : Nat) (x2 : Int) (x3 : Int) (H : Heap) (locs : List Loc) (ls : Array Slot) (hE : f_X5_cut_L26 N M0 b1 k n x2 x3 = some out) (hM : RW G dX5 ad hp0 M0 H locs) (hl : lv_has ls 6 [(0, .ref (ad 40)), (1, vI b1), (2, vI x2), (3, vI x3)]) (hk : ∀ (x2 : Int) (x3 : Int) (H : Heap) (locs : List Loc) (ls : Array Slot), RW G dX5 ad hp0 M0 H locs → lv_has ls 6 [(0, .ref (ad 40)), (1, vI b1), (2, vI x2), (3, vI x3)] → k x2 x3 = some out → W p l e (rmD 2) s m args below meth c H locs 0 0 (QR below G dX5 ad hp0 args s (some (vI out)) M0) (F0 m 60 ls [])), W p l e (rmD 2) s m args below meth c H locs 0 0 (QR below G dX5 ad hp0 args s (some (vI out)) M0) (F0 m 26 ls []) := by
  intro n
  induction n with
  | zero =>
    intro x2 x3 H locs ls hE hM hl hk
    unfold f_X5_cut_L26 at hE
    cases hE
  | succ n ih =>
    intro x2 x3 H locs ls hE hM hl hk
    unfold f_X5_cut_L26 at hE
    refine e_iload_n X hl 3 rfl dX5_cut_26 rfl ?_
    refine e_aload_n X hl 0 rfl dX5_cut_27 rfl ?_
    obtain ⟨v3, h, hE⟩ := ob_some hE
    refine r_callV1 X hM 40 rfl ck_X5 (rest := [vI x3]) (met_X5_towns_2 l G ad hp0 M0 h) (cwV 0 X.ht (lw_V q3187 q3189 qs75 q170 q3190) rfl rfl rfl hd_X5_towns_2 (cxR (by decide) (by decide))) rfl hl.1 rfl (Nat.le_of_ble_eq_true rfl) dX5_cut_28 ⟨Nat.le_refl _, Nat.le_refl _⟩ (fun H locs hM => ?_)
    refine e_icmp_ge X (w32 x3) (w32 v3) rfl rfl hE dX5_cut_31 rfl (fun hE => ?_) (fun hE => ?_)
    · exact hk x2 x3 _ _ _ hM (lv_sub hl [0, 1, 2, 3] rfl) hE
    · refine e_iload_n X hl 1 rfl dX5_cut_34 rfl ?_
      refine e_iload_n X hl 3 rfl dX5_cut_35 rfl ?_
      refine e_ishr X dX5_cut_36 ?_
      refine e_iconst X dX5_cut_37 ?_
      refine e_iand X dX5_cut_38 ?_
      refine e_iconst X dX5_cut_39 ?_
      obtain ⟨kj4, hkj4, hE⟩ := jn_ex hE
      have hjkj4 : ∀ (v5 : Int) (H : Heap) (locs : List Loc) (ls : Array Slot), RW G dX5 ad hp0 M0 H locs → lv_has ls 6 [(0, .ref (ad 40)), (1, vI b1), (2, vI v5), (3, vI x3)] → kj4 v5 = some out → W p l e (rmD 2) s m args below meth c H locs 0 0 (QR below G dX5 ad hp0 args s (some (vI out)) M0) (F0 m 54 ls []) := by
        intro v5 H locs ls hM hl hE
        subst hkj4
        refine e_iinc X hl 3 hE (fun v6 => [(3, vI v6), (0, .ref (ad 40)), (1, vI b1), (2, vI v5)]) rfl dX5_cut_54 (by decide) (fun _ => rfl) (fun v6 hE ls hl => ?_)
        refine e_goto X dX5_cut_57 rfl ?_
        exact ih v5 v6 _ _ _ hE hM (lv_sub hl [1, 2, 3, 0] rfl) hk
      refine e_icmp_ne X (w32 (iAnd (iShr b1 x3) 1)) 1 rfl (by decide) hE dX5_cut_40 rfl (fun hE => ?_) (fun hE => ?_)
      · exact hjkj4 x2 _ _ _ hM (lv_sub hl [0, 1, 2, 3] rfl) hE
      · refine e_iload_n X hl 2 rfl dX5_cut_43 rfl ?_
        refine e_aload_n X hl 0 rfl dX5_cut_44 rfl ?_
        refine r_getR X hM ck_X5 40 0 rfl rfl (by decide) q3034 rfl dX5_cut_45 ?_
        refine e_iconst X dX5_cut_48 ?_
        refine e_iload_n X hl 3 rfl dX5_cut_49 rfl ?_
        refine e_iadd X dX5_cut_50 ?_
        refine r_iald X hM 0 rfl (Nat.le_of_ble_eq_true rfl) hE dX5_cut_51 (fun v7 hE => ?_)
        refine e_iadd X dX5_cut_52 ?_
        refine e_top hE (fun v8 hE => ?_)
        refine e_istore_n X hl [(2, vI v8), (0, .ref (ad 40)), (1, vI b1), (3, vI x3)] dX5_cut_53 rfl (by decide) rfl (fun ls hl => ?_)
        exact hjkj4 v8 _ _ _ hM (lv_sub hl [1, 2, 0, 3] rfl) hE
theorem wl_X5_cut_62 {p : Program} {l : Launch} {e : Env} {s : State} {m : MethodId} {args : Array Value} {below : List Frame} {meth : Method} {c : Code} {G : GG} {ad : Nat → Nat} {hp0 : HP} {M0 : RM} (X : CX p s m args meth c cX5_cut 6 RX5 (some .int) G) {N : Nat} {b1 : Int}  {k : Int → Int → Option Int} {out : Int} : ∀ (n : Nat) (x2 : Int) (x3 : Int) (H : Heap) (locs : List Loc) (ls : Array Slot) (hE : f_X5_cut_L62 N M0 b1 k n x2 x3 = some out) (hM : RW G dX5 ad hp0 M0 H locs) (hl : lv_has ls 6 [(0, .ref (ad 40)), (1, vI b1), (2, vI x2), (3, vI x3)]) (hk : ∀ (x2 : Int) (x3 : Int) (H : Heap) (locs : List Loc) (ls : Array Slot), RW G dX5 ad hp0 M0 H locs → lv_has ls 6 [(0, .ref (ad 40)), (1, vI b1), (2, vI x2), (3, vI x3)] → k x2 x3 = some out → W p l e (rmD 2) s m args below meth c H locs 0 0 (QR below G dX5 ad hp0 args s (some (vI out)) M0) (F0 m 157 ls [])), W p l e (rmD 2) s m args below meth c H locs 0 0 (QR below G dX5 ad hp0 args s (some (vI out)) M0) (F0 m 62 ls []) := by
  intro n
  induction n with
  | zero =>
    intro x2 x3 H locs ls hE hM hl hk
    unfold f_X5_cut_L62 at hE
    cases hE
  | succ n ih =>
    intro x2 x3 H locs ls hE hM hl hk
    unfold f_X5_cut_L62 at hE
    refine e_iload_n X hl 3 rfl dX5_cut_62 rfl ?_
    refine e_aload_n X hl 0 rfl dX5_cut_63 rfl ?_
    obtain ⟨v11, h, hE⟩ := ob_some hE
    refine r_callV1 X hM 40 rfl ck_X5 (rest := [vI x3]) (met_X5_many l G ad hp0 M0 h) (cwV 0 X.ht (lw_V q3206 q3208 qs77 q170 q3209) rfl rfl rfl hd_X5_many (cxR (by decide) (by decide))) rfl hl.1 rfl (Nat.le_of_ble_eq_true rfl) dX5_cut_64 ⟨Nat.le_refl _, Nat.le_refl _⟩ (fun H locs hM => ?_)
    refine e_icmp_ge X (w32 x3) (w32 v11) rfl rfl hE dX5_cut_67 rfl (fun hE => ?_) (fun hE => ?_)
    · exact hk x2 x3 _ _ _ hM (lv_sub hl [0, 1, 2, 3] rfl) hE
    · refine e_iload_n X hl 1 rfl dX5_cut_70 rfl ?_
      refine e_aload_n X hl 0 rfl dX5_cut_71 rfl ?_
      refine e_iload_n X hl 3 rfl dX5_cut_72 rfl ?_
      obtain ⟨v12, h, hE⟩ := ob_some hE
      refine r_callV1 X hM 40 rfl ck_X5 (rest := [vI b1]) (met_X5_from l G ad hp0 M0 x3 h) (cwV 1 X.ht (lw_V q3222 q3224 qs80 q170 q3225) rfl rfl rfl hd_X5_from (cxR (by decide) (by decide))) rfl hl.1 rfl (Nat.le_of_ble_eq_true rfl) dX5_cut_73 ⟨Nat.le_refl _, Nat.le_refl _⟩ (fun H locs hM => ?_)
      refine e_ishr X dX5_cut_76 ?_
      refine e_iconst X dX5_cut_77 ?_
      refine e_iand X dX5_cut_78 ?_
      refine e_iconst X dX5_cut_79 ?_
      obtain ⟨kj13, hkj13, hE⟩ := jn_ex hE
      have hjkj13 : ∀ (v14 : Int) (H : Heap) (locs : List Loc) (ls : Array Slot), RW G dX5 ad hp0 M0 H locs → lv_has ls 6 [(0, .ref (ad 40)), (1, vI b1), (2, vI x2), (3, vI x3)] → kj13 v14 = some out → W p l e (rmD 2) s m args below meth c H locs 0 0 (QR below G dX5 ad hp0 args s (some (vI out)) M0) (F0 m 88 ls [vI v14]) := by
        intro v14 H locs ls hM hl hE
        subst hkj13
        refine e_istore X hl [(4, vI v14), (0, .ref (ad 40)), (1, vI b1), (2, vI x2), (3, vI x3)] dX5_cut_88 (by decide) rfl (fun ls hl => ?_)
        refine e_iload_n X hl 2 rfl dX5_cut_90 rfl ?_
        refine e_aload_n X hl 1 rfl dX5_cut_91 rfl ?_
        refine e_iload_n X hl 4 rfl dX5_cut_92 rfl ?_
        obtain ⟨v15, h, hE⟩ := ob_some hE
        refine r_callV1 X hM 40 rfl ck_X5 (rest := [vI b1]) (met_X5_to l G ad hp0 M0 x3 h) (cwV 1 X.ht (lw_V q3226 q3228 qs81 q170 q3229) rfl rfl rfl hd_X5_to (cxR (by decide) (by decide))) rfl hl.1 rfl (Nat.le_of_ble_eq_true rfl) dX5_cut_93 ⟨Nat.le_refl _, Nat.le_refl _⟩ (fun H locs hM => ?_)
        refine e_ishr X dX5_cut_96 ?_
        refine e_iconst X dX5_cut_97 ?_
        refine e_iand X dX5_cut_98 ?_
        refine e_iconst X dX5_cut_99 ?_
        obtain ⟨kj16, hkj16, hE⟩ := jn_ex hE
        have hjkj16 : ∀ (v17 : Int) (H : Heap) (locs : List Loc) (ls : Array Slot), RW G dX5 ad hp0 M0 H locs → lv_has ls 6 [(0, .ref (ad 40)), (1, vI b1), (2, vI x2), (3, vI x3), (4, vI v14)] → kj16 v17 = some out → W p l e (rmD 2) s m args below meth c H locs 0 0 (QR below G dX5 ad hp0 args s (some (vI out)) M0) (F0 m 108 ls [vI v17]) := by
          intro v17 H locs ls hM hl hE
          subst hkj16
          refine e_istore X hl [(5, vI v17), (0, .ref (ad 40)), (1, vI b1), (2, vI x2), (3, vI x3), (4, vI v14)] dX5_cut_108 (by decide) rfl (fun ls hl => ?_)
          refine e_iload_n X hl 3 rfl dX5_cut_110 rfl ?_
          refine e_iload X hl 5 rfl dX5_cut_111 ?_
          obtain ⟨kj18, hkj18, hE⟩ := jn_ex hE
          have hjkj18 : ∀ (v19 : Int) (H : Heap) (locs : List Loc) (ls : Array Slot), RW G dX5 ad hp0 M0 H locs → lv_has ls 6 [(0, .ref (ad 40)), (1, vI b1), (3, vI x3)] → kj18 v19 = some out → W p l e (rmD 2) s m args below meth c H locs 0 0 (QR below G dX5 ad hp0 args s (some (vI out)) M0) (F0 m 149 ls [vI v19, vI x2]) := by
            intro v19 H locs ls hM hl hE
            subst hkj18
            refine e_iadd X dX5_cut_149 ?_
            refine e_top hE (fun v20 hE => ?_)
            refine e_istore_n X hl [(2, vI v20), (0, .ref (ad 40)), (1, vI b1), (3, vI x3)] dX5_cut_150 rfl (by decide) rfl (fun ls hl => ?_)
            refine e_iinc X hl 3 hE (fun v21 => [(3, vI v21), (2, vI v20), (0, .ref (ad 40)), (1, vI b1)]) rfl dX5_cut_151 (by decide) (fun _ => rfl) (fun v21 hE ls hl => ?_)
            refine e_goto X dX5_cut_154 rfl ?_
            exact ih v20 v21 _ _ _ hE hM (lv_sub hl [2, 3, 1, 0] rfl) hk
          refine e_if_eq X (w32 v14) rfl hE dX5_cut_113 rfl (fun hE => ?_) (fun hE => ?_)
          · refine e_iload X hl 0 rfl dX5_cut_130 ?_
            refine e_if_eq X (w32 v17) rfl hE dX5_cut_132 rfl (fun hE => ?_) (fun hE => ?_)
            · refine e_iconst X dX5_cut_148 ?_
              exact hjkj18 0 _ _ _ hM (lv_sub hl [1, 2, 4] rfl) hE
            · refine e_iload X hl 5 rfl dX5_cut_135 ?_
              refine e_if_ne X (w32 v14) rfl hE dX5_cut_137 rfl (fun hE => ?_) (fun hE => ?_)
              · refine e_iconst X dX5_cut_148 ?_
                exact hjkj18 0 _ _ _ hM (lv_sub hl [1, 2, 4] rfl) hE
              · refine e_aload_n X hl 1 rfl dX5_cut_140 rfl ?_
                refine e_iload_n X hl 4 rfl dX5_cut_141 rfl ?_
                obtain ⟨v22, h, hE⟩ := ob_some hE
                refine r_callV1 X hM 40 rfl ck_X5 (rest := [vI x2]) (met_X5_low l G ad hp0 M0 x3 h) (cwV 1 X.ht (lw_V q3238 q3240 qs83 q170 q3241) rfl rfl rfl hd_X5_low (cxR (by decide) (by decide))) rfl hl.1 rfl (Nat.le_of_ble_eq_true rfl) dX5_cut_142 ⟨Nat.le_refl _, Nat.le_refl _⟩ (fun H locs hM => ?_)
                refine e_goto X dX5_cut_145 rfl ?_
                exact hjkj18 v22 _ _ _ hM (lv_sub hl [1, 2, 4] rfl) hE
          · refine e_iload X hl 0 rfl dX5_cut_116 ?_
            refine e_if_ne X (w32 v17) rfl hE dX5_cut_118 rfl (fun hE => ?_) (fun hE => ?_)
            · refine e_iload X hl 0 rfl dX5_cut_130 ?_
              refine e_if_eq X (w32 v17) rfl hE dX5_cut_132 rfl (fun hE => ?_) (fun hE => ?_)
              · refine e_iconst X dX5_cut_148 ?_
                exact hjkj18 0 _ _ _ hM (lv_sub hl [1, 2, 4] rfl) hE
              · refine e_iload X hl 5 rfl dX5_cut_135 ?_
                refine e_if_ne X (w32 v14) rfl hE dX5_cut_137 rfl (fun hE => ?_) (fun hE => ?_)
                · refine e_iconst X dX5_cut_148 ?_
                  exact hjkj18 0 _ _ _ hM (lv_sub hl [1, 2, 4] rfl) hE
                · refine e_aload_n X hl 1 rfl dX5_cut_140 rfl ?_
                  refine e_iload_n X hl 4 rfl dX5_cut_141 rfl ?_
                  obtain ⟨v23, h, hE⟩ := ob_some hE
                  refine r_callV1 X hM 40 rfl ck_X5 (rest := [vI x2]) (met_X5_low l G ad hp0 M0 x3 h) (cwV 1 X.ht (lw_V q3238 q3240 qs83 q170 q3241) rfl rfl rfl hd_X5_low (cxR (by decide) (by decide))) rfl hl.1 rfl (Nat.le_of_ble_eq_true rfl) dX5_cut_142 ⟨Nat.le_refl _, Nat.le_refl _⟩ (fun H locs hM => ?_)
                  refine e_goto X dX5_cut_145 rfl ?_
                  exact hjkj18 v23 _ _ _ hM (lv_sub hl [1, 2, 4] rfl) hE
            · refine e_aload_n X hl 1 rfl dX5_cut_121 rfl ?_
              refine e_iload_n X hl 4 rfl dX5_cut_122 rfl ?_
              obtain ⟨v24, h, hE⟩ := ob_some hE
              refine r_callV1 X hM 40 rfl ck_X5 (rest := [vI x2]) (met_X5_most l G ad hp0 M0 x3 h) (cwV 1 X.ht (lw_V q3242 q3244 qs84 q170 q3245) rfl rfl rfl hd_X5_most (cxR (by decide) (by decide))) rfl hl.1 rfl (Nat.le_of_ble_eq_true rfl) dX5_cut_123 ⟨Nat.le_refl _, Nat.le_refl _⟩ (fun H locs hM => ?_)
              refine e_ineg X dX5_cut_126 ?_
              refine e_goto X dX5_cut_127 rfl ?_
              exact hjkj18 (-v24) _ _ _ hM (lv_sub hl [1, 2, 4] rfl) hE
        refine e_icmp_ne X (w32 (iAnd (iShr b1 v15) 1)) 1 rfl (by decide) hE dX5_cut_100 rfl (fun hE => ?_) (fun hE => ?_)
        · refine e_iconst X dX5_cut_107 ?_
          exact hjkj16 0 _ _ _ hM (lv_sub hl [1, 2, 3, 4, 0] rfl) hE
        · refine e_iconst X dX5_cut_103 ?_
          refine e_goto X dX5_cut_104 rfl ?_
          exact hjkj16 1 _ _ _ hM (lv_sub hl [1, 2, 3, 4, 0] rfl) hE
      refine e_icmp_ne X (w32 (iAnd (iShr b1 v12) 1)) 1 rfl (by decide) hE dX5_cut_80 rfl (fun hE => ?_) (fun hE => ?_)
      · refine e_iconst X dX5_cut_87 ?_
        exact hjkj13 0 _ _ _ hM (lv_sub hl [0, 1, 2, 3] rfl) hE
      · refine e_iconst X dX5_cut_83 ?_
        refine e_goto X dX5_cut_84 rfl ?_
        exact hjkj13 1 _ _ _ hM (lv_sub hl [0, 1, 2, 3] rfl) hE
theorem wl_X5_cut_12 {p : Program} {l : Launch} {e : Env} {s : State} {m : MethodId} {args : Array Value} {below : List Frame} {meth : Method} {c : Code} {G : GG} {ad : Nat → Nat} {hp0 : HP} {M0 : RM} (X : CX p s m args meth c cX5_cut 6 RX5 (some .int) G) {N : Nat}   {k : Int → Option Int} {out : Int} : ∀ (n : Nat) (x1 : Int) (H : Heap) (locs : List Loc) (ls : Array Slot) (hE : f_X5_cut_L12 N M0  k n x1 = some out) (hM : RW G dX5 ad hp0 M0 H locs) (hl : lv_has ls 6 [(0, .ref (ad 40)), (1, vI x1)]) (hk : ∀ (x1 : Int) (H : Heap) (locs : List Loc) (ls : Array Slot), RW G dX5 ad hp0 M0 H locs → lv_has ls 6 [(0, .ref (ad 40)), (1, vI x1)] → k x1 = some out → W p l e (rmD 2) s m args below meth c H locs 0 0 (QR below G dX5 ad hp0 args s (some (vI out)) M0) (F0 m 169 ls [])), W p l e (rmD 2) s m args below meth c H locs 0 0 (QR below G dX5 ad hp0 args s (some (vI out)) M0) (F0 m 12 ls []) := by
  intro n
  induction n with
  | zero =>
    intro x1 H locs ls hE hM hl hk
    unfold f_X5_cut_L12 at hE
    cases hE
  | succ n ih =>
    intro x1 H locs ls hE hM hl hk
    unfold f_X5_cut_L12 at hE
    refine e_iload_n X hl 1 rfl dX5_cut_12 rfl ?_
    refine e_iconst X dX5_cut_13 ?_
    refine e_aload_n X hl 0 rfl dX5_cut_14 rfl ?_
    obtain ⟨v2, h, hE⟩ := ob_some hE
    refine r_callV1 X hM 40 rfl ck_X5 (rest := [vI 1, vI x1]) (met_X5_towns_2 l G ad hp0 M0 h) (cwV 0 X.ht (lw_V q3187 q3189 qs75 q170 q3190) rfl rfl rfl hd_X5_towns_2 (cxR (by decide) (by decide))) rfl hl.1 rfl (Nat.le_of_ble_eq_true rfl) dX5_cut_15 ⟨Nat.le_refl _, Nat.le_refl _⟩ (fun H locs hM => ?_)
    refine e_ishl X dX5_cut_18 ?_
    refine e_icmp_ge X (w32 x1) (w32 (iShl 1 v2)) rfl rfl hE dX5_cut_19 rfl (fun hE => ?_) (fun hE => ?_)
    · exact hk x1 _ _ _ hM (lv_sub hl [0, 1] rfl) hE
    · refine e_iconst X dX5_cut_22 ?_
      refine e_istore_n X hl [(2, vI 0), (0, .ref (ad 40)), (1, vI x1)] dX5_cut_23 rfl (by decide) rfl (fun ls hl => ?_)
      refine e_iconst X dX5_cut_24 ?_
      refine e_istore_n X hl [(3, vI 0), (2, vI 0), (0, .ref (ad 40)), (1, vI x1)] dX5_cut_25 rfl (by decide) rfl (fun ls hl => ?_)
      refine wl_X5_cut_26 X _ 0 0 _ _ _ hE hM (lv_sub hl [2, 3, 1, 0] rfl) (fun v9 v10 H locs ls hM hl hE => ?_)
      refine e_iconst X dX5_cut_60 ?_
      refine e_istore_n X hl [(3, vI 0), (0, .ref (ad 40)), (1, vI x1), (2, vI v9)] dX5_cut_61 rfl (by decide) rfl (fun ls hl => ?_)
      refine wl_X5_cut_62 X _ v9 0 _ _ _ hE hM (lv_sub hl [1, 2, 3, 0] rfl) (fun v25 v26 H locs ls hM hl hE => ?_)
      refine e_iload_n X hl 2 rfl dX5_cut_157 rfl ?_
      refine e_if_le X (w32 v25) rfl hE dX5_cut_158 rfl (fun hE => ?_) (fun hE => ?_)
      · refine e_iinc X hl 1 hE (fun v27 => [(1, vI v27), (0, .ref (ad 40)), (2, vI v25), (3, vI v26)]) rfl dX5_cut_163 (by decide) (fun _ => rfl) (fun v27 hE ls hl => ?_)
        refine e_goto X dX5_cut_166 rfl ?_
        exact ih v27 _ _ _ hE hM (lv_sub hl [1, 0] rfl) hk
      · refine e_iload_n X hl 1 rfl dX5_cut_161 rfl ?_
        cases hE
        exact r_zret X hM rfl dX5_cut_162
theorem wb_X5_cut {p : Program} {l : Launch} {e : Env} {s : State} {m : MethodId} {args : Array Value} {below : List Frame} {meth : Method} {c : Code} {G : GG} {ad : Nat → Nat} {hp0 : HP} {M0 : RM} (X : CX p s m args meth c cX5_cut 6 RX5 (some .int) G) {N : Nat}   {out : Int} (hE : f_X5_cut N M0 = some out) {H : Heap} {locs : List Loc} {ls : Array Slot} (hM : RW G dX5 ad hp0 M0 H locs) (hl : lv_has ls 6 [(0, .ref (ad 40))]) : W p l e (rmD 2) s m args below meth c H locs 0 0 (QR below G dX5 ad hp0 args s (some (vI out)) M0) (F0 m 0 ls []) := by
  unfold f_X5_cut at hE
  refine e_aload_n X hl 0 rfl dX5_cut_0 rfl ?_
  obtain ⟨v1, h, hE⟩ := ob_some hE
  refine r_callV1 X hM 40 rfl ck_X5 (rest := []) (met_X5_supplied l G ad hp0 M0 h) (cwV 0 X.ht (lw_V q3347 q3349 qs103 q170 q3350) rfl rfl rfl hd_X5_supplied (cxR (by decide) (by decide))) rfl hl.1 rfl (Nat.le_of_ble_eq_true rfl) dX5_cut_1 ⟨Nat.le_refl _, Nat.le_refl _⟩ (fun H locs hM => ?_)
  refine e_if_eq X (w32 v1) rfl hE dX5_cut_4 rfl (fun hE => ?_) (fun hE => ?_)
  · refine e_iconst X dX5_cut_10 ?_
    refine e_istore_n X hl [(1, vI 0), (0, .ref (ad 40))] dX5_cut_11 rfl (by decide) rfl (fun ls hl => ?_)
    refine wl_X5_cut_12 X _ 0 _ _ _ hE hM (lv_sub hl [1, 0] rfl) (fun v28 H locs ls hM hl hE => ?_)
    refine e_bipush X dX5_cut_169 (by decide) ?_
    cases hE
    exact r_zret (x := (-5)) X hM rfl dX5_cut_171
  · refine e_bipush X dX5_cut_7 (by decide) ?_
    cases hE
    exact r_zret (x := (-3)) X hM rfl dX5_cut_9
theorem met_X5_cut (l : Launch) (G : GG) (ad : Nat → Nat) (hp0 : HP) {N : Nat} (M0 : RM)   {out : Int} (hE : f_X5_cut N M0 = some out) : MR l yX5_cut (ws_ yX5_cut cX5_cut 6 (some .int)) 2 G dX5 ad hp0 [.ref (ad 40)] M0 (some (vI out)) M0 :=
  MR.of (by decide) (Nat.le_of_ble_eq_true rfl) rfl (fun p e s m below meth c ls X hM hl => wb_X5_cut X hE hM hl)
def f_X5_cheapest_L6 (N : Nat) (M0 : RM) (b1 : Int) (b2 : Int) (k : Int → Int → Option Int) : Nat → Int → Int → Option Int
  | 0, _, _ => none
  | n + 1, x3, x4 =>
    ob (f_X5_many M0) fun v1 => if w32 (2 * v1) ≤ w32 x4 then (k x3 x4) else (ob (f_X5_leads M0 x4 1) fun v2 => jn (fun (v4 : Int) => jn (x4 + 1) fun v5 => f_X5_cheapest_L6 N M0 b1 b2 k n v4 v5) fun kj3 => if ¬ w32 v2 = w32 b1 then (kj3 x3) else (ob (f_X5_leads M0 x4 0) fun v6 => if ¬ w32 v6 = w32 b2 then (kj3 x3) else (ob (f_X5_room M0 x4) fun v7 => if w32 v7 ≤ 0 then (kj3 x3) else (if w32 x3 < 0 then (kj3 x4) else (ob (f_X5_costOf M0 x4) fun v8 => ob (f_X5_costOf M0 x3) fun v9 => if w64 v9 ≤ w64 v8 then (kj3 x3) else (kj3 x4))))))
def f_X5_cheapest (N : Nat) (M0 : RM) (a1 : Int) (a2 : Int) : Option Int :=
  f_X5_cheapest_L6 N M0 a1 a2 (fun (v10 : Int) (v11 : Int) => some v10) N (-5) 0
theorem hd_X5_cheapest : yX5_cheapest.cls = RX5 ∧ yX5_cheapest.cls ≠ "java/lang/invoke/MethodHandle" ∧ yX5_cheapest.cls ≠ "java/lang/invoke/VarHandle" ∧ (parseMethodDescriptor yX5_cheapest.desc).map (fun d => d.parameters.length) = some 2 := by decide +kernel
theorem wl_X5_cheapest_6 {p : Program} {l : Launch} {e : Env} {s : State} {m : MethodId} {args : Array Value} {below : List Frame} {meth : Method} {c : Code} {G : GG} {ad : Nat → Nat} {hp0 : HP} {M0 : RM} (X : CX p s m args meth c cX5_cheapest 5 RX5 (some .int) G) {N : Nat} {b1 : Int} {b2 : Int}  {k : Int → Int → Option Int} {out : Int} : ∀ (n : Nat) (x3 : Int) (x4 : Int) (H : Heap) (locs : List Loc) (ls : Array Slot) (hE : f_X5_cheapest_L6 N M0 b1 b2 k n x3 x4 = some out) (hM : RW G dX5 ad hp0 M0 H locs) (hl : lv_has ls 5 [(0, .ref (ad 40)), (1, vI b1), (2, vI b2), (3, vI x3), (4, vI x4)]) (hk : ∀ (x3 : Int) (x4 : Int) (H : Heap) (locs : List Loc) (ls : Array Slot), RW G dX5 ad hp0 M0 H locs → lv_has ls 5 [(0, .ref (ad 40)), (1, vI b1), (2, vI b2), (3, vI x3), (4, vI x4)] → k x3 x4 = some out → W p l e (rmD 2) s m args below meth c H locs 0 0 (QR below G dX5 ad hp0 args s (some (vI out)) M0) (F0 m 76 ls [])), W p l e (rmD 2) s m args below meth c H locs 0 0 (QR below G dX5 ad hp0 args s (some (vI out)) M0) (F0 m 6 ls []) := by
  intro n
  induction n with
  | zero =>
    intro x3 x4 H locs ls hE hM hl hk
    unfold f_X5_cheapest_L6 at hE
    cases hE
  | succ n ih =>
    intro x3 x4 H locs ls hE hM hl hk
    unfold f_X5_cheapest_L6 at hE
    refine e_iload X hl 4 rfl dX5_cheapest_6 ?_
    refine e_iconst X dX5_cheapest_8 ?_
    refine e_aload_n X hl 0 rfl dX5_cheapest_9 rfl ?_
    obtain ⟨v1, h, hE⟩ := ob_some hE
    refine r_callV1 X hM 40 rfl ck_X5 (rest := [vI 2, vI x4]) (met_X5_many l G ad hp0 M0 h) (cwV 0 X.ht (lw_V q3206 q3208 qs77 q170 q3209) rfl rfl rfl hd_X5_many (cxR (by decide) (by decide))) rfl hl.1 rfl (Nat.le_of_ble_eq_true rfl) dX5_cheapest_10 ⟨Nat.le_refl _, Nat.le_refl _⟩ (fun H locs hM => ?_)
    refine e_imul X dX5_cheapest_13 ?_
    refine e_icmp_ge X (w32 x4) (w32 (2 * v1)) rfl rfl hE dX5_cheapest_14 rfl (fun hE => ?_) (fun hE => ?_)
    · exact hk x3 x4 _ _ _ hM (lv_sub hl [0, 1, 2, 3, 4] rfl) hE
    · refine e_aload_n X hl 0 rfl dX5_cheapest_17 rfl ?_
      refine e_iload X hl 4 rfl dX5_cheapest_18 ?_
      refine e_iconst X dX5_cheapest_20 ?_
      obtain ⟨v2, h, hE⟩ := ob_some hE
      refine r_callV1 X hM 40 rfl ck_X5 (rest := []) (met_X5_leads l G ad hp0 M0 x4 1 h) (cwV 2 X.ht (lw_V q3331 q3333 qs99 q170 q3334) rfl rfl rfl hd_X5_leads (cxR (by decide) (by decide))) rfl hl.1 rfl (Nat.le_of_ble_eq_true rfl) dX5_cheapest_21 ⟨Nat.le_refl _, Nat.le_refl _⟩ (fun H locs hM => ?_)
      refine e_iload_n X hl 1 rfl dX5_cheapest_24 rfl ?_
      obtain ⟨kj3, hkj3, hE⟩ := jn_ex hE
      have hjkj3 : ∀ (v4 : Int) (H : Heap) (locs : List Loc) (ls : Array Slot), RW G dX5 ad hp0 M0 H locs → lv_has ls 5 [(0, .ref (ad 40)), (1, vI b1), (2, vI b2), (3, vI v4), (4, vI x4)] → kj3 v4 = some out → W p l e (rmD 2) s m args below meth c H locs 0 0 (QR below G dX5 ad hp0 args s (some (vI out)) M0) (F0 m 70 ls []) := by
        intro v4 H locs ls hM hl hE
        subst hkj3
        refine e_iinc X hl 4 hE (fun v5 => [(4, vI v5), (0, .ref (ad 40)), (1, vI b1), (2, vI b2), (3, vI v4)]) rfl dX5_cheapest_70 (by decide) (fun _ => rfl) (fun v5 hE ls hl => ?_)
        refine e_goto X dX5_cheapest_73 rfl ?_
        exact ih v4 v5 _ _ _ hE hM (lv_sub hl [1, 2, 3, 4, 0] rfl) hk
      refine e_icmp_ne X (w32 v2) (w32 b1) rfl rfl hE dX5_cheapest_25 rfl (fun hE => ?_) (fun hE => ?_)
      · exact hjkj3 x3 _ _ _ hM (lv_sub hl [0, 1, 2, 3, 4] rfl) hE
      · refine e_aload_n X hl 0 rfl dX5_cheapest_28 rfl ?_
        refine e_iload X hl 4 rfl dX5_cheapest_29 ?_
        refine e_iconst X dX5_cheapest_31 ?_
        obtain ⟨v6, h, hE⟩ := ob_some hE
        refine r_callV1 X hM 40 rfl ck_X5 (rest := []) (met_X5_leads l G ad hp0 M0 x4 0 h) (cwV 2 X.ht (lw_V q3331 q3333 qs99 q170 q3334) rfl rfl rfl hd_X5_leads (cxR (by decide) (by decide))) rfl hl.1 rfl (Nat.le_of_ble_eq_true rfl) dX5_cheapest_32 ⟨Nat.le_refl _, Nat.le_refl _⟩ (fun H locs hM => ?_)
        refine e_iload_n X hl 2 rfl dX5_cheapest_35 rfl ?_
        refine e_icmp_ne X (w32 v6) (w32 b2) rfl rfl hE dX5_cheapest_36 rfl (fun hE => ?_) (fun hE => ?_)
        · exact hjkj3 x3 _ _ _ hM (lv_sub hl [0, 1, 2, 3, 4] rfl) hE
        · refine e_aload_n X hl 0 rfl dX5_cheapest_39 rfl ?_
          refine e_iload X hl 4 rfl dX5_cheapest_40 ?_
          obtain ⟨v7, h, hE⟩ := ob_some hE
          refine r_callV1 X hM 40 rfl ck_X5 (rest := []) (met_X5_room l G ad hp0 M0 x4 h) (cwV 1 X.ht (lw_V q3335 q3337 qs100 q170 q3338) rfl rfl rfl hd_X5_room (cxR (by decide) (by decide))) rfl hl.1 rfl (Nat.le_of_ble_eq_true rfl) dX5_cheapest_42 ⟨Nat.le_refl _, Nat.le_refl _⟩ (fun H locs hM => ?_)
          refine e_if_le X (w32 v7) rfl hE dX5_cheapest_45 rfl (fun hE => ?_) (fun hE => ?_)
          · exact hjkj3 x3 _ _ _ hM (lv_sub hl [0, 1, 2, 3, 4] rfl) hE
          · refine e_iload_n X hl 3 rfl dX5_cheapest_48 rfl ?_
            refine e_if_lt X (w32 x3) rfl hE dX5_cheapest_49 rfl (fun hE => ?_) (fun hE => ?_)
            · refine e_iload X hl 4 rfl dX5_cheapest_67 ?_
              refine e_istore_n X hl [(3, vI x4), (0, .ref (ad 40)), (1, vI b1), (2, vI b2), (4, vI x4)] dX5_cheapest_69 rfl (by decide) rfl (fun ls hl => ?_)
              exact hjkj3 x4 _ _ _ hM (lv_sub hl [1, 2, 3, 0, 4] rfl) hE
            · refine e_aload_n X hl 0 rfl dX5_cheapest_52 rfl ?_
              refine e_iload X hl 4 rfl dX5_cheapest_53 ?_
              obtain ⟨v8, h, hE⟩ := ob_some hE
              refine r_callV1 X hM 40 rfl ck_X5 (rest := []) (met_X5_costOf l G ad hp0 M0 x4 h) (cwV 1 X.ht (lw_V q3339 q3341 qs101 q170 q3342) rfl rfl rfl hd_X5_costOf (cxR (by decide) (by decide))) rfl hl.1 rfl (Nat.le_of_ble_eq_true rfl) dX5_cheapest_55 ⟨Nat.le_refl _, Nat.le_refl _⟩ (fun H locs hM => ?_)
              refine e_aload_n X hl 0 rfl dX5_cheapest_58 rfl ?_
              refine e_iload_n X hl 3 rfl dX5_cheapest_59 rfl ?_
              obtain ⟨v9, h, hE⟩ := ob_some hE
              refine r_callV1 X hM 40 rfl ck_X5 (rest := [vL v8]) (met_X5_costOf l G ad hp0 M0 x3 h) (cwV 1 X.ht (lw_V q3339 q3341 qs101 q170 q3342) rfl rfl rfl hd_X5_costOf (cxR (by decide) (by decide))) rfl hl.1 rfl (Nat.le_of_ble_eq_true rfl) dX5_cheapest_60 ⟨Nat.le_refl _, Nat.le_refl _⟩ (fun H locs hM => ?_)
              refine e_lcmp_ge X (w64 v8) (w64 v9) rfl rfl hE dX5_cheapest_63 dX5_cheapest_64 rfl (fun hE => ?_) (fun hE => ?_)
              · exact hjkj3 x3 _ _ _ hM (lv_sub hl [0, 1, 2, 3, 4] rfl) hE
              · refine e_iload X hl 4 rfl dX5_cheapest_67 ?_
                refine e_istore_n X hl [(3, vI x4), (0, .ref (ad 40)), (1, vI b1), (2, vI b2), (4, vI x4)] dX5_cheapest_69 rfl (by decide) rfl (fun ls hl => ?_)
                exact hjkj3 x4 _ _ _ hM (lv_sub hl [1, 2, 3, 0, 4] rfl) hE
theorem wb_X5_cheapest {p : Program} {l : Launch} {e : Env} {s : State} {m : MethodId} {args : Array Value} {below : List Frame} {meth : Method} {c : Code} {G : GG} {ad : Nat → Nat} {hp0 : HP} {M0 : RM} (X : CX p s m args meth c cX5_cheapest 5 RX5 (some .int) G) {N : Nat} {a1 : Int} {a2 : Int}   {out : Int} (hE : f_X5_cheapest N M0 a1 a2 = some out) {H : Heap} {locs : List Loc} {ls : Array Slot} (hM : RW G dX5 ad hp0 M0 H locs) (hl : lv_has ls 5 [(0, .ref (ad 40)), (1, vI a1), (2, vI a2)]) : W p l e (rmD 2) s m args below meth c H locs 0 0 (QR below G dX5 ad hp0 args s (some (vI out)) M0) (F0 m 0 ls []) := by
  unfold f_X5_cheapest at hE
  refine e_bipush X dX5_cheapest_0 (by decide) ?_
  refine e_istore_n X hl [(3, vI (-5)), (0, .ref (ad 40)), (1, vI a1), (2, vI a2)] dX5_cheapest_2 rfl (by decide) rfl (fun ls hl => ?_)
  refine e_iconst X dX5_cheapest_3 ?_
  refine e_istore X hl [(4, vI 0), (3, vI (-5)), (0, .ref (ad 40)), (1, vI a1), (2, vI a2)] dX5_cheapest_4 (by decide) rfl (fun ls hl => ?_)
  refine wl_X5_cheapest_6 X _ (-5) 0 _ _ _ hE hM (lv_sub hl [2, 3, 4, 1, 0] rfl) (fun v10 v11 H locs ls hM hl hE => ?_)
  refine e_iload_n X hl 3 rfl dX5_cheapest_76 rfl ?_
  cases hE
  exact r_zret X hM rfl dX5_cheapest_77
theorem met_X5_cheapest (l : Launch) (G : GG) (ad : Nat → Nat) (hp0 : HP) {N : Nat} (M0 : RM) (a1 : Int) (a2 : Int)  {out : Int} (hE : f_X5_cheapest N M0 a1 a2 = some out) : MR l yX5_cheapest (ws_ yX5_cheapest cX5_cheapest 5 (some .int)) 2 G dX5 ad hp0 [.ref (ad 40), vI a1, vI a2] M0 (some (vI out)) M0 :=
  MR.of (by decide) (Nat.le_of_ble_eq_true rfl) rfl (fun p e s m below meth c ls X hM hl => wb_X5_cheapest X hE hM hl)
def f_X5_step (N : Nat) (M : RM) (a1 : Int) (a2 : Int) : Option (Int × RM) :=
  ob (f_X5_areTwo M a1 a2) fun v1 => if ¬ w32 v1 = 0 then (ob2 (f_X5_flows N M) fun v2 M3 => if w32 v2 = 0 then (some ((-3), M3)) else (ob (f_X5_cheapest N M3 a1 a2) fun v4 => some (v4, M3))) else (some ((-1), M))
theorem hd_X5_step : yX5_step.cls = RX5 ∧ yX5_step.cls ≠ "java/lang/invoke/MethodHandle" ∧ yX5_step.cls ≠ "java/lang/invoke/VarHandle" ∧ (parseMethodDescriptor yX5_step.desc).map (fun d => d.parameters.length) = some 2 := by decide +kernel
theorem wb_X5_step {p : Program} {l : Launch} {e : Env} {s : State} {m : MethodId} {args : Array Value} {below : List Frame} {meth : Method} {c : Code} {G : GG} {ad : Nat → Nat} {hp0 : HP} (X : CX p s m args meth c cX5_step 3 RX5 (some .int) G) {N : Nat} {M : RM} {a1 : Int} {a2 : Int}   {out : (Int × RM)} (hE : f_X5_step N M a1 a2 = some out) {H : Heap} {locs : List Loc} {ls : Array Slot} (hM : RW G dX5 ad hp0 M H locs) (hl : lv_has ls 3 [(0, .ref (ad 40)), (1, vI a1), (2, vI a2)]) : W p l e (rmD 6) s m args below meth c H locs 0 0 (QR below G dX5 ad hp0 args s (some (vI out.1)) out.2) (F0 m 0 ls []) := by
  unfold f_X5_step at hE
  refine e_aload_n X hl 0 rfl dX5_step_0 rfl ?_
  refine e_iload_n X hl 1 rfl dX5_step_1 rfl ?_
  refine e_iload_n X hl 2 rfl dX5_step_2 rfl ?_
  obtain ⟨v1, h, hE⟩ := ob_some hE
  refine r_callV1 X hM 40 rfl ck_X5 (rest := []) (met_X5_areTwo l G ad hp0 M a1 a2 h) (cwV 2 X.ht (lw_V q3197 q3199 qs76 q170 q3200) rfl rfl rfl hd_X5_areTwo (cxR (by decide) (by decide))) rfl hl.1 rfl (Nat.le_of_ble_eq_true rfl) dX5_step_3 ⟨Nat.le_refl _, Nat.le_refl _⟩ (fun H locs hM => ?_)
  refine e_if_ne X (w32 v1) rfl hE dX5_step_6 rfl (fun hE => ?_) (fun hE => ?_)
  · refine e_aload_n X hl 0 rfl dX5_step_11 rfl ?_
    obtain ⟨v2, M3, h, hE⟩ := ob2_some hE
    refine r_callV1 X hM 40 rfl ck_X5 (rest := []) (met_X5_flows l G ad hp0 M h) (cwV 0 X.ht (lw_V q3310 q3312 qs94 q170 q3313) rfl rfl rfl hd_X5_flows (cxR (by decide) (by decide))) rfl hl.1 rfl (Nat.le_of_ble_eq_true rfl) dX5_step_12 ⟨Nat.le_refl _, Nat.le_refl _⟩ (fun H locs hM => ?_)
    refine e_if_eq X (w32 v2) rfl hE dX5_step_15 rfl (fun hE => ?_) (fun hE => ?_)
    · refine e_bipush X dX5_step_27 (by decide) ?_
      cases hE
      exact r_zret (x := (-3)) X hM rfl dX5_step_29
    · refine e_aload_n X hl 0 rfl dX5_step_18 rfl ?_
      refine e_iload_n X hl 1 rfl dX5_step_19 rfl ?_
      refine e_iload_n X hl 2 rfl dX5_step_20 rfl ?_
      obtain ⟨v4, h, hE⟩ := ob_some hE
      refine r_callV1 X hM 40 rfl ck_X5 (rest := []) (met_X5_cheapest l G ad hp0 M3 a1 a2 h) (cwV 2 X.ht (lw_V q3406 q3408 qs110 q170 q3409) rfl rfl rfl hd_X5_cheapest (cxR (by decide) (by decide))) rfl hl.1 rfl (Nat.le_of_ble_eq_true rfl) dX5_step_21 ⟨Nat.le_refl _, Nat.le_refl _⟩ (fun H locs hM => ?_)
      refine e_goto X dX5_step_24 rfl ?_
      cases hE
      exact r_zret X hM rfl dX5_step_29
  · refine e_iconst X dX5_step_9 ?_
    cases hE
    exact r_zret (x := (-1)) X hM rfl dX5_step_10
theorem met_X5_step (l : Launch) (G : GG) (ad : Nat → Nat) (hp0 : HP) {N : Nat} (M : RM) (a1 : Int) (a2 : Int)  {out : (Int × RM)} (hE : f_X5_step N M a1 a2 = some out) : MR l yX5_step (ws_ yX5_step cX5_step 3 (some .int)) 6 G dX5 ad hp0 [.ref (ad 40), vI a1, vI a2] M (some (vI out.1)) out.2 :=
  MR.of (by decide) (Nat.le_of_ble_eq_true rfl) rfl (fun p e s m below meth c ls X hM hl => wb_X5_step X hE hM hl)
def f_X5_thinks (N : Nat) (M : RM)  : Option (Int × RM) :=
  ob2 (f_X5_isTotal N M) fun v1 M2 => jn (up2 M2 40 28 (M2 40 24)) fun M3 => ob (f_X5_pours N M3 0 110 0 26 110 0) fun M4 => ob (f_X5_poursCosts N M4 1 25 0 27 25 0) fun M5 => ob (tz v1) fun v6 => some (v6, M5)
theorem hd_X5_thinks : yX5_thinks.cls = RX5 ∧ yX5_thinks.cls ≠ "java/lang/invoke/MethodHandle" ∧ yX5_thinks.cls ≠ "java/lang/invoke/VarHandle" ∧ (parseMethodDescriptor yX5_thinks.desc).map (fun d => d.parameters.length) = some 0 := by decide +kernel
theorem wb_X5_thinks {p : Program} {l : Launch} {e : Env} {s : State} {m : MethodId} {args : Array Value} {below : List Frame} {meth : Method} {c : Code} {G : GG} {ad : Nat → Nat} {hp0 : HP} (X : CX p s m args meth c cX5_thinks 2 RX5 (some .boolean) G) {N : Nat} {M : RM}   {out : (Int × RM)} (hE : f_X5_thinks N M = some out) {H : Heap} {locs : List Loc} {ls : Array Slot} (hM : RW G dX5 ad hp0 M H locs) (hl : lv_has ls 2 [(0, .ref (ad 40))]) : W p l e (rmD 7) s m args below meth c H locs 0 0 (QR below G dX5 ad hp0 args s (some (vI out.1)) out.2) (F0 m 0 ls []) := by
  unfold f_X5_thinks at hE
  refine e_aload_n X hl 0 rfl dX5_thinks_0 rfl ?_
  obtain ⟨v1, M2, h, hE⟩ := ob2_some hE
  refine r_callV1 X hM 40 rfl ck_X5 (rest := []) (met_X5_isTotal l G ad hp0 M h) (cwV 0 X.ht (lw_V q3382 q3384 qs109 q170 q3385) rfl rfl rfl hd_X5_isTotal (cxR (by decide) (by decide))) rfl hl.1 rfl (Nat.le_of_ble_eq_true rfl) dX5_thinks_1 ⟨Nat.le_refl _, Nat.le_refl _⟩ (fun H locs hM => ?_)
  refine e_istore_n X hl [(1, vI v1), (0, .ref (ad 40))] dX5_thinks_4 rfl (by decide) rfl (fun ls hl => ?_)
  refine e_aload_n X hl 1 rfl dX5_thinks_5 rfl ?_
  refine e_aload_n X hl 1 rfl dX5_thinks_6 rfl ?_
  refine r_getJ X hM ck_X5 40 24 rfl rfl (by decide) q3058 rfl dX5_thinks_7 ?_
  refine r_putJ X hM ck_X5 40 28 rfl rfl (by decide) q3062 rfl rfl hE rfl dX5_thinks_10 (fun M3 hE H locs hM => ?_)
  refine e_aload_n X hl 1 rfl dX5_thinks_13 rfl ?_
  refine r_getR X hM ck_X5 40 0 rfl rfl (by decide) q3034 rfl dX5_thinks_14 ?_
  refine e_iconst X dX5_thinks_17 ?_
  refine e_aload_n X hl 1 rfl dX5_thinks_18 rfl ?_
  refine r_getR X hM ck_X5 40 26 rfl rfl (by decide) q3060 rfl dX5_thinks_19 ?_
  refine e_iconst X dX5_thinks_22 ?_
  obtain ⟨M4, h, hE⟩ := ob_some hE
  refine r_callS0 X hM (rest := []) (met_X5_pours l G ad hp0 M3 0 110 0 26 110 0 rfl (Nat.le_of_ble_eq_true rfl) rfl (Nat.le_of_ble_eq_true rfl) h) (va_cwS 4 X.ht (lw_S q3160 q3161 q170 q3162) rfl rfl rfl hd_X5_pours (cxR (by decide) (by decide))) rfl hl.1 rfl (Nat.le_of_ble_eq_true rfl) dX5_thinks_23 ⟨Nat.le_refl _, Nat.le_refl _⟩ (fun H locs hM => ?_)
  refine e_aload_n X hl 1 rfl dX5_thinks_26 rfl ?_
  refine r_getR X hM ck_X5 40 1 rfl rfl (by decide) q3035 rfl dX5_thinks_27 ?_
  refine e_iconst X dX5_thinks_30 ?_
  refine e_aload_n X hl 1 rfl dX5_thinks_31 rfl ?_
  refine r_getR X hM ck_X5 40 27 rfl rfl (by decide) q3061 rfl dX5_thinks_32 ?_
  refine e_iconst X dX5_thinks_35 ?_
  obtain ⟨M5, h, hE⟩ := ob_some hE
  refine r_callS0 X hM (rest := []) (met_X5_poursCosts l G ad hp0 M4 1 25 0 27 25 0 rfl (Nat.le_of_ble_eq_true rfl) rfl (Nat.le_of_ble_eq_true rfl) h) (va_cwS 4 X.ht (lw_S q3163 q3164 q170 q3165) rfl rfl rfl hd_X5_poursCosts (cxR (by decide) (by decide))) rfl hl.1 rfl (Nat.le_of_ble_eq_true rfl) dX5_thinks_36 ⟨Nat.le_refl _, Nat.le_refl _⟩ (fun H locs hM => ?_)
  refine e_iload_n X hl 0 rfl dX5_thinks_39 rfl ?_
  obtain ⟨v6, hz, hE⟩ := ob_some hE
  have hn := nb_z hz
  have hz := (tz_some hz).2
  rw [hz] at hE
  cases hE
  exact r_zret X hM hn dX5_thinks_40
theorem met_X5_thinks (l : Launch) (G : GG) (ad : Nat → Nat) (hp0 : HP) {N : Nat} (M : RM)   {out : (Int × RM)} (hE : f_X5_thinks N M = some out) : MR l yX5_thinks (ws_ yX5_thinks cX5_thinks 2 (some .boolean)) 7 G dX5 ad hp0 [.ref (ad 40)] M (some (vI out.1)) out.2 :=
  MR.of (by decide) (Nat.le_of_ble_eq_true rfl) rfl (fun p e s m below meth c ls X hM hl => wb_X5_thinks X hE hM hl)
def f_X5_more (M0 : RM) (a1 : Int) (a2 : Int) : Option Int :=
  jn (a1 - a2) fun v1 => jn (fun (v3 : Int) => jn (fun (v5 : Int) => if w32 v3 = w32 v5 then (some v1) else (jn (fun (v7 : Int) => jn (fun (v9 : Int) => if w32 v7 = w32 v9 then (some v1) else (some (-9223372036854775808))) fun kj8 => if 0 ≤ w64 a1 then (kj8 0) else (kj8 1)) fun kj6 => if 0 ≤ w64 v1 then (kj6 0) else (kj6 1))) fun kj4 => if 0 ≤ w64 a2 then (kj4 0) else (kj4 1)) fun kj2 => if 0 ≤ w64 a1 then (kj2 0) else (kj2 1)
theorem hd_X5_more : yX5_more.cls ≠ "java/lang/invoke/MethodHandle" ∧ yX5_more.cls ≠ "java/lang/invoke/VarHandle" ∧ (parseMethodDescriptor yX5_more.desc).map (fun d => d.parameters.length) = some 2 := by decide +kernel
theorem wb_X5_more {p : Program} {l : Launch} {e : Env} {s : State} {m : MethodId} {args : Array Value} {below : List Frame} {meth : Method} {c : Code} {G : GG} {ad : Nat → Nat} {hp0 : HP} {M0 : RM} (X : CX p s m args meth c cX5_more 6 RX5 (some .long) G) {a1 : Int} {a2 : Int}   {out : Int} (hE : f_X5_more M0 a1 a2 = some out) {H : Heap} {locs : List Loc} {ls : Array Slot} (hM : RW G dX5 ad hp0 M0 H locs) (hl : lv_has ls 6 [(0, vL a1), (2, vL a2)]) : W p l e (rmD 0) s m args below meth c H locs 0 0 (QR below G dX5 ad hp0 args s (some (vL out)) M0) (F0 m 0 ls []) := by
  unfold f_X5_more at hE
  refine e_lload_n X hl 0 rfl dX5_more_0 rfl ?_
  refine e_lload_n X hl 1 rfl dX5_more_1 rfl ?_
  refine e_lsub X dX5_more_2 ?_
  refine e_topl hE (fun v1 hE => ?_)
  refine e_lstore X hl [(4, vL v1), (0, vL a1), (2, vL a2)] dX5_more_3 (by decide) rfl (fun ls hl => ?_)
  refine e_lload_n X hl 1 rfl dX5_more_5 rfl ?_
  refine e_lconst X 0 dX5_more_6 (by decide) ?_
  obtain ⟨kj2, hkj2, hE⟩ := jn_ex hE
  have hjkj2 : ∀ (v3 : Int) (H : Heap) (locs : List Loc) (ls : Array Slot), RW G dX5 ad hp0 M0 H locs → lv_has ls 6 [(0, vL a1), (2, vL a2), (4, vL v1)] → kj2 v3 = some out → W p l e (rmD 0) s m args below meth c H locs 0 0 (QR below G dX5 ad hp0 args s (some (vL out)) M0) (F0 m 16 ls [vI v3]) := by
    intro v3 H locs ls hM hl hE
    subst hkj2
    refine e_lload_n X hl 1 rfl dX5_more_16 rfl ?_
    refine e_lconst X 0 dX5_more_17 (by decide) ?_
    obtain ⟨kj4, hkj4, hE⟩ := jn_ex hE
    have hjkj4 : ∀ (v5 : Int) (H : Heap) (locs : List Loc) (ls : Array Slot), RW G dX5 ad hp0 M0 H locs → lv_has ls 6 [(0, vL a1), (4, vL v1)] → kj4 v5 = some out → W p l e (rmD 0) s m args below meth c H locs 0 0 (QR below G dX5 ad hp0 args s (some (vL out)) M0) (F0 m 27 ls [vI v5, vI v3]) := by
      intro v5 H locs ls hM hl hE
      subst hkj4
      refine e_icmp_eq X (w32 v3) (w32 v5) rfl rfl hE dX5_more_27 rfl (fun hE => ?_) (fun hE => ?_)
      · refine e_lload X hl 1 rfl dX5_more_62 ?_
        cases hE
        exact r_lret X hM dX5_more_64
      · refine e_lload X hl 1 rfl dX5_more_30 ?_
        refine e_lconst X 0 dX5_more_32 (by decide) ?_
        obtain ⟨kj6, hkj6, hE⟩ := jn_ex hE
        have hjkj6 : ∀ (v7 : Int) (H : Heap) (locs : List Loc) (ls : Array Slot), RW G dX5 ad hp0 M0 H locs → lv_has ls 6 [(0, vL a1), (4, vL v1)] → kj6 v7 = some out → W p l e (rmD 0) s m args below meth c H locs 0 0 (QR below G dX5 ad hp0 args s (some (vL out)) M0) (F0 m 42 ls [vI v7]) := by
          intro v7 H locs ls hM hl hE
          subst hkj6
          refine e_lload_n X hl 0 rfl dX5_more_42 rfl ?_
          refine e_lconst X 0 dX5_more_43 (by decide) ?_
          obtain ⟨kj8, hkj8, hE⟩ := jn_ex hE
          have hjkj8 : ∀ (v9 : Int) (H : Heap) (locs : List Loc) (ls : Array Slot), RW G dX5 ad hp0 M0 H locs → lv_has ls 6 [(4, vL v1)] → kj8 v9 = some out → W p l e (rmD 0) s m args below meth c H locs 0 0 (QR below G dX5 ad hp0 args s (some (vL out)) M0) (F0 m 53 ls [vI v9, vI v7]) := by
            intro v9 H locs ls hM hl hE
            subst hkj8
            refine e_icmp_eq X (w32 v7) (w32 v9) rfl rfl hE dX5_more_53 rfl (fun hE => ?_) (fun hE => ?_)
            · refine e_lload X hl 0 rfl dX5_more_62 ?_
              cases hE
              exact r_lret X hM dX5_more_64
            · refine e_ldc2 X (-9223372036854775808) q3250 (by decide) dX5_more_56 ?_
              refine e_goto X dX5_more_59 rfl ?_
              cases hE
              exact r_lret X hM dX5_more_64
          refine e_lcmp_ge X (w64 a1) 0 rfl (by decide) hE dX5_more_44 dX5_more_45 rfl (fun hE => ?_) (fun hE => ?_)
          · refine e_iconst X dX5_more_52 ?_
            exact hjkj8 0 _ _ _ hM (lv_sub hl [1] rfl) hE
          · refine e_iconst X dX5_more_48 ?_
            refine e_goto X dX5_more_49 rfl ?_
            exact hjkj8 1 _ _ _ hM (lv_sub hl [1] rfl) hE
        refine e_lcmp_ge X (w64 v1) 0 rfl (by decide) hE dX5_more_33 dX5_more_34 rfl (fun hE => ?_) (fun hE => ?_)
        · refine e_iconst X dX5_more_41 ?_
          exact hjkj6 0 _ _ _ hM (lv_sub hl [0, 1] rfl) hE
        · refine e_iconst X dX5_more_37 ?_
          refine e_goto X dX5_more_38 rfl ?_
          exact hjkj6 1 _ _ _ hM (lv_sub hl [0, 1] rfl) hE
    refine e_lcmp_ge X (w64 a2) 0 rfl (by decide) hE dX5_more_18 dX5_more_19 rfl (fun hE => ?_) (fun hE => ?_)
    · refine e_iconst X dX5_more_26 ?_
      exact hjkj4 0 _ _ _ hM (lv_sub hl [0, 2] rfl) hE
    · refine e_iconst X dX5_more_22 ?_
      refine e_goto X dX5_more_23 rfl ?_
      exact hjkj4 1 _ _ _ hM (lv_sub hl [0, 2] rfl) hE
  refine e_lcmp_ge X (w64 a1) 0 rfl (by decide) hE dX5_more_7 dX5_more_8 rfl (fun hE => ?_) (fun hE => ?_)
  · refine e_iconst X dX5_more_15 ?_
    exact hjkj2 0 _ _ _ hM (lv_sub hl [1, 2, 0] rfl) hE
  · refine e_iconst X dX5_more_11 ?_
    refine e_goto X dX5_more_12 rfl ?_
    exact hjkj2 1 _ _ _ hM (lv_sub hl [1, 2, 0] rfl) hE
theorem met_X5_more (l : Launch) (G : GG) (ad : Nat → Nat) (hp0 : HP) (M0 : RM) (a1 : Int) (a2 : Int)  {out : Int} (hE : f_X5_more M0 a1 a2 = some out) : MR l yX5_more (ws_ yX5_more cX5_more 6 (some .long)) 0 G dX5 ad hp0 [vL a1, vL a2] M0 (some (vL out)) M0 :=
  MR.of (by decide) (Nat.le_of_ble_eq_true rfl) rfl (fun p e s m below meth c ls X hM hl => wb_X5_more X hE hM hl)
def f_X5_thinksNoMore (N : Nat) (M : RM)  : Option RM :=
  ob (f_X5_pours N M 26 110 0 0 110 0) fun M1 => ob (f_X5_poursCosts N M1 27 25 0 1 25 0) fun M2 => some M2
theorem hd_X5_thinksNoMore : yX5_thinksNoMore.cls = RX5 ∧ yX5_thinksNoMore.cls ≠ "java/lang/invoke/MethodHandle" ∧ yX5_thinksNoMore.cls ≠ "java/lang/invoke/VarHandle" ∧ (parseMethodDescriptor yX5_thinksNoMore.desc).map (fun d => d.parameters.length) = some 0 := by decide +kernel
theorem wb_X5_thinksNoMore {p : Program} {l : Launch} {e : Env} {s : State} {m : MethodId} {args : Array Value} {below : List Frame} {meth : Method} {c : Code} {G : GG} {ad : Nat → Nat} {hp0 : HP} (X : CX p s m args meth c cX5_thinksNoMore 1 RX5 none G) {N : Nat} {M : RM}   {out : RM} (hE : f_X5_thinksNoMore N M = some out) {H : Heap} {locs : List Loc} {ls : Array Slot} (hM : RW G dX5 ad hp0 M H locs) (hl : lv_has ls 1 [(0, .ref (ad 40))]) : W p l e (rmD 1) s m args below meth c H locs 0 0 (QR below G dX5 ad hp0 args s none out) (F0 m 0 ls []) := by
  unfold f_X5_thinksNoMore at hE
  refine e_aload_n X hl 0 rfl dX5_thinksNoMore_0 rfl ?_
  refine r_getR X hM ck_X5 40 26 rfl rfl (by decide) q3060 rfl dX5_thinksNoMore_1 ?_
  refine e_iconst X dX5_thinksNoMore_4 ?_
  refine e_aload_n X hl 0 rfl dX5_thinksNoMore_5 rfl ?_
  refine r_getR X hM ck_X5 40 0 rfl rfl (by decide) q3034 rfl dX5_thinksNoMore_6 ?_
  refine e_iconst X dX5_thinksNoMore_9 ?_
  obtain ⟨M1, h, hE⟩ := ob_some hE
  refine r_callS0 X hM (rest := []) (met_X5_pours l G ad hp0 M 26 110 0 0 110 0 rfl (Nat.le_of_ble_eq_true rfl) rfl (Nat.le_of_ble_eq_true rfl) h) (va_cwS 4 X.ht (lw_S q3160 q3161 q170 q3162) rfl rfl rfl hd_X5_pours (cxR (by decide) (by decide))) rfl hl.1 rfl (Nat.le_of_ble_eq_true rfl) dX5_thinksNoMore_10 ⟨Nat.le_refl _, Nat.le_refl _⟩ (fun H locs hM => ?_)
  refine e_aload_n X hl 0 rfl dX5_thinksNoMore_13 rfl ?_
  refine r_getR X hM ck_X5 40 27 rfl rfl (by decide) q3061 rfl dX5_thinksNoMore_14 ?_
  refine e_iconst X dX5_thinksNoMore_17 ?_
  refine e_aload_n X hl 0 rfl dX5_thinksNoMore_18 rfl ?_
  refine r_getR X hM ck_X5 40 1 rfl rfl (by decide) q3035 rfl dX5_thinksNoMore_19 ?_
  refine e_iconst X dX5_thinksNoMore_22 ?_
  obtain ⟨M2, h, hE⟩ := ob_some hE
  refine r_callS0 X hM (rest := []) (met_X5_poursCosts l G ad hp0 M1 27 25 0 1 25 0 rfl (Nat.le_of_ble_eq_true rfl) rfl (Nat.le_of_ble_eq_true rfl) h) (va_cwS 4 X.ht (lw_S q3163 q3164 q170 q3165) rfl rfl rfl hd_X5_poursCosts (cxR (by decide) (by decide))) rfl hl.1 rfl (Nat.le_of_ble_eq_true rfl) dX5_thinksNoMore_23 ⟨Nat.le_refl _, Nat.le_refl _⟩ (fun H locs hM => ?_)
  cases hE
  exact r_vret X hM dX5_thinksNoMore_26
theorem met_X5_thinksNoMore (l : Launch) (G : GG) (ad : Nat → Nat) (hp0 : HP) {N : Nat} (M : RM)   {out : RM} (hE : f_X5_thinksNoMore N M = some out) : MR l yX5_thinksNoMore (ws_ yX5_thinksNoMore cX5_thinksNoMore 1 none) 1 G dX5 ad hp0 [.ref (ad 40)] M none out :=
  MR.of (by decide) (Nat.le_of_ble_eq_true rfl) rfl (fun p e s m below meth c ls X hM hl => wb_X5_thinksNoMore X hE hM hl)
def f_X5_wider (N : Nat) (M : RM) (a1 : Int) (a2 : Int) : Option (Int × RM) :=
  ob (f_X5_isRoad M a1) fun v1 => if w32 v1 = 0 then (some ((-9223372036854775808), M)) else (ob (f_X5_in M (w32 a2) 1 99) fun v2 => if w32 v2 = 0 then (some ((-9223372036854775808), M)) else (ob2 (f_X5_thinks N M) fun v3 M4 => if ¬ w32 v3 = 0 then (ob (gA 110 M4 0 ((10 + (4 * a1)) + 3)) fun v5 => ob (sA 110 M4 0 ((10 + (4 * a1)) + 3) (v5 + a2)) fun M6 => ob2 (f_X5_isTotal N M6) fun v7 M8 => jn (fun (v10 : Int) => ob (f_X5_thinksNoMore N M8) fun M11 => some (v10, M11)) fun kj9 => if w32 v7 = 0 then (kj9 (-9223372036854775808)) else (ob (f_X5_more M8 (M8 40 28) (M8 40 24)) fun v12 => kj9 v12)) else (some ((-9223372036854775808), M4))))
theorem hd_X5_wider : yX5_wider.cls = RX5 ∧ yX5_wider.cls ≠ "java/lang/invoke/MethodHandle" ∧ yX5_wider.cls ≠ "java/lang/invoke/VarHandle" ∧ (parseMethodDescriptor yX5_wider.desc).map (fun d => d.parameters.length) = some 2 := by decide +kernel
theorem wb_X5_wider {p : Program} {l : Launch} {e : Env} {s : State} {m : MethodId} {args : Array Value} {below : List Frame} {meth : Method} {c : Code} {G : GG} {ad : Nat → Nat} {hp0 : HP} (X : CX p s m args meth c cX5_wider 5 RX5 (some .long) G) {N : Nat} {M : RM} {a1 : Int} {a2 : Int}   {out : (Int × RM)} (hE : f_X5_wider N M a1 a2 = some out) {H : Heap} {locs : List Loc} {ls : Array Slot} (hM : RW G dX5 ad hp0 M H locs) (hl : lv_has ls 5 [(0, .ref (ad 40)), (1, vI a1), (2, vI a2)]) : W p l e (rmD 8) s m args below meth c H locs 0 0 (QR below G dX5 ad hp0 args s (some (vL out.1)) out.2) (F0 m 0 ls []) := by
  unfold f_X5_wider at hE
  refine e_aload_n X hl 0 rfl dX5_wider_0 rfl ?_
  refine e_iload_n X hl 1 rfl dX5_wider_1 rfl ?_
  obtain ⟨v1, h, hE⟩ := ob_some hE
  refine r_callV1 X hM 40 rfl ck_X5 (rest := []) (met_X5_isRoad l G ad hp0 M a1 h) (cwV 1 X.ht (lw_V q3218 q3220 qs79 q170 q3221) rfl rfl rfl hd_X5_isRoad (cxR (by decide) (by decide))) rfl hl.1 rfl (Nat.le_of_ble_eq_true rfl) dX5_wider_2 ⟨Nat.le_refl _, Nat.le_refl _⟩ (fun H locs hM => ?_)
  refine e_if_eq X (w32 v1) rfl hE dX5_wider_5 rfl (fun hE => ?_) (fun hE => ?_)
  · refine e_ldc2 X (-9223372036854775808) q3250 (by decide) dX5_wider_27 ?_
    cases hE
    exact r_lret X hM dX5_wider_30
  · refine e_iload_n X hl 2 rfl dX5_wider_8 rfl ?_
    refine e_i2l X dX5_wider_9 ?_
    refine e_lconst X 1 dX5_wider_10 (by decide) ?_
    refine e_ldc2 X 99 q3192 (by decide) dX5_wider_11 ?_
    obtain ⟨v2, h, hE⟩ := ob_some hE
    refine r_callS1 X hM (rest := []) (met_X5_in l G ad hp0 M (w32 a2) 1 99 h) (va_cwS 3 X.ht (lw_S q3172 q3173 q170 q3174) rfl rfl rfl hd_X5_in (cxR (by decide) (by decide))) rfl hl.1 rfl (Nat.le_of_ble_eq_true rfl) dX5_wider_14 ⟨Nat.le_refl _, Nat.le_refl _⟩ (fun H locs hM => ?_)
    refine e_if_eq X (w32 v2) rfl hE dX5_wider_17 rfl (fun hE => ?_) (fun hE => ?_)
    · refine e_ldc2 X (-9223372036854775808) q3250 (by decide) dX5_wider_27 ?_
      cases hE
      exact r_lret X hM dX5_wider_30
    · refine e_aload_n X hl 0 rfl dX5_wider_20 rfl ?_
      obtain ⟨v3, M4, h, hE⟩ := ob2_some hE
      refine r_callV1 X hM 40 rfl ck_X5 (rest := []) (met_X5_thinks l G ad hp0 M h) (cwV 0 X.ht (lw_V q3414 q3416 qs111 q170 q3417) rfl rfl rfl hd_X5_thinks (cxR (by decide) (by decide))) rfl hl.1 rfl (Nat.le_of_ble_eq_true rfl) dX5_wider_21 ⟨Nat.le_refl _, Nat.le_refl _⟩ (fun H locs hM => ?_)
      refine e_if_ne X (w32 v3) rfl hE dX5_wider_24 rfl (fun hE => ?_) (fun hE => ?_)
      · refine e_aload_n X hl 0 rfl dX5_wider_31 rfl ?_
        refine r_getR X hM ck_X5 40 0 rfl rfl (by decide) q3034 rfl dX5_wider_32 ?_
        refine e_bipush X dX5_wider_35 (by decide) ?_
        refine e_iconst X dX5_wider_37 ?_
        refine e_iload_n X hl 1 rfl dX5_wider_38 rfl ?_
        refine e_imul X dX5_wider_39 ?_
        refine e_iadd X dX5_wider_40 ?_
        refine e_iconst X dX5_wider_41 ?_
        refine e_iadd X dX5_wider_42 ?_
        refine e_dup2 X dX5_wider_43 rfl rfl ?_
        refine r_iald X hM 0 rfl (Nat.le_of_ble_eq_true rfl) hE dX5_wider_44 (fun v5 hE => ?_)
        refine e_iload_n X hl 2 rfl dX5_wider_45 rfl ?_
        refine e_iadd X dX5_wider_46 ?_
        refine r_iast X hM 0 rfl (Nat.le_of_ble_eq_true rfl) hE dX5_wider_47 (fun M6 hE H locs hM => ?_)
        refine e_aload_n X hl 0 rfl dX5_wider_48 rfl ?_
        obtain ⟨v7, M8, h, hE⟩ := ob2_some hE
        refine r_callV1 X hM 40 rfl ck_X5 (rest := []) (met_X5_isTotal l G ad hp0 M6 h) (cwV 0 X.ht (lw_V q3382 q3384 qs109 q170 q3385) rfl rfl rfl hd_X5_isTotal (cxR (by decide) (by decide))) rfl hl.1 rfl (Nat.le_of_ble_eq_true rfl) dX5_wider_49 ⟨Nat.le_refl _, Nat.le_refl _⟩ (fun H locs hM => ?_)
        obtain ⟨kj9, hkj9, hE⟩ := jn_ex hE
        have hjkj9 : ∀ (v10 : Int) (H : Heap) (locs : List Loc) (ls : Array Slot), RW G dX5 ad hp0 M8 H locs → lv_has ls 5 [(0, .ref (ad 40))] → kj9 v10 = some out → W p l e (rmD 8) s m args below meth c H locs 0 0 (QR below G dX5 ad hp0 args s (some (vL out.1)) out.2) (F0 m 72 ls [vL v10]) := by
          intro v10 H locs ls hM hl hE
          subst hkj9
          refine e_lstore_n X hl [(3, vL v10), (0, .ref (ad 40))] dX5_wider_72 rfl (by decide) rfl (fun ls hl => ?_)
          refine e_aload_n X hl 1 rfl dX5_wider_73 rfl ?_
          obtain ⟨M11, h, hE⟩ := ob_some hE
          refine r_callV0 X hM 40 rfl ck_X5 (rest := []) (met_X5_thinksNoMore l G ad hp0 M8 h) (cwV 0 X.ht (lw_V q3421 q3423 qs112 q170 q3424) rfl rfl rfl hd_X5_thinksNoMore (cxR (by decide) (by decide))) rfl hl.1 rfl (Nat.le_of_ble_eq_true rfl) dX5_wider_74 ⟨Nat.le_refl _, Nat.le_refl _⟩ (fun H locs hM => ?_)
          refine e_lload_n X hl 0 rfl dX5_wider_77 rfl ?_
          cases hE
          exact r_lret X hM dX5_wider_78
        refine e_if_eq X (w32 v7) rfl hE dX5_wider_52 rfl (fun hE => ?_) (fun hE => ?_)
        · refine e_ldc2 X (-9223372036854775808) q3250 (by decide) dX5_wider_69 ?_
          exact hjkj9 (-9223372036854775808) _ _ _ hM (lv_sub hl [0] rfl) hE
        · refine e_aload_n X hl 0 rfl dX5_wider_55 rfl ?_
          refine r_getJ X hM ck_X5 40 28 rfl rfl (by decide) q3062 rfl dX5_wider_56 ?_
          refine e_aload_n X hl 0 rfl dX5_wider_59 rfl ?_
          refine r_getJ X hM ck_X5 40 24 rfl rfl (by decide) q3058 rfl dX5_wider_60 ?_
          obtain ⟨v12, h, hE⟩ := ob_some hE
          refine r_callS1 X hM (rest := []) (met_X5_more l G ad hp0 M8 (M8 40 28) (M8 40 24) h) (va_cwS 2 X.ht (lw_S q3418 q3419 q170 q3420) rfl rfl rfl hd_X5_more (cxR (by decide) (by decide))) rfl hl.1 rfl (Nat.le_of_ble_eq_true rfl) dX5_wider_63 ⟨Nat.le_refl _, Nat.le_refl _⟩ (fun H locs hM => ?_)
          refine e_goto X dX5_wider_66 rfl ?_
          exact hjkj9 v12 _ _ _ hM (lv_sub hl [0] rfl) hE
      · refine e_ldc2 X (-9223372036854775808) q3250 (by decide) dX5_wider_27 ?_
        cases hE
        exact r_lret X hM dX5_wider_30
theorem met_X5_wider (l : Launch) (G : GG) (ad : Nat → Nat) (hp0 : HP) {N : Nat} (M : RM) (a1 : Int) (a2 : Int)  {out : (Int × RM)} (hE : f_X5_wider N M a1 a2 = some out) : MR l yX5_wider (ws_ yX5_wider cX5_wider 5 (some .long)) 8 G dX5 ad hp0 [.ref (ad 40), vI a1, vI a2] M (some (vL out.1)) out.2 :=
  MR.of (by decide) (Nat.le_of_ble_eq_true rfl) rfl (fun p e s m below meth c ls X hM hl => wb_X5_wider X hE hM hl)
def f_X5_without (N : Nat) (M : RM) (a1 : Int) : Option (Int × RM) :=
  ob (f_X5_isRoad M a1) fun v1 => if w32 v1 = 0 then (some ((-9223372036854775808), M)) else (ob2 (f_X5_thinks N M) fun v2 M3 => if ¬ w32 v2 = 0 then (ob (f_X5_closes N M3 a1) fun M4 => ob2 (f_X5_isTotal N M4) fun v5 M6 => jn (fun (v8 : Int) => ob (f_X5_thinksNoMore N M6) fun M9 => some (v8, M9)) fun kj7 => if w32 v5 = 0 then (kj7 (-9223372036854775808)) else (ob (f_X5_more M6 (M6 40 24) (M6 40 28)) fun v10 => kj7 v10)) else (some ((-9223372036854775808), M3)))
theorem hd_X5_without : yX5_without.cls = RX5 ∧ yX5_without.cls ≠ "java/lang/invoke/MethodHandle" ∧ yX5_without.cls ≠ "java/lang/invoke/VarHandle" ∧ (parseMethodDescriptor yX5_without.desc).map (fun d => d.parameters.length) = some 1 := by decide +kernel
theorem wb_X5_without {p : Program} {l : Launch} {e : Env} {s : State} {m : MethodId} {args : Array Value} {below : List Frame} {meth : Method} {c : Code} {G : GG} {ad : Nat → Nat} {hp0 : HP} (X : CX p s m args meth c cX5_without 4 RX5 (some .long) G) {N : Nat} {M : RM} {a1 : Int}   {out : (Int × RM)} (hE : f_X5_without N M a1 = some out) {H : Heap} {locs : List Loc} {ls : Array Slot} (hM : RW G dX5 ad hp0 M H locs) (hl : lv_has ls 4 [(0, .ref (ad 40)), (1, vI a1)]) : W p l e (rmD 8) s m args below meth c H locs 0 0 (QR below G dX5 ad hp0 args s (some (vL out.1)) out.2) (F0 m 0 ls []) := by
  unfold f_X5_without at hE
  refine e_aload_n X hl 0 rfl dX5_without_0 rfl ?_
  refine e_iload_n X hl 1 rfl dX5_without_1 rfl ?_
  obtain ⟨v1, h, hE⟩ := ob_some hE
  refine r_callV1 X hM 40 rfl ck_X5 (rest := []) (met_X5_isRoad l G ad hp0 M a1 h) (cwV 1 X.ht (lw_V q3218 q3220 qs79 q170 q3221) rfl rfl rfl hd_X5_isRoad (cxR (by decide) (by decide))) rfl hl.1 rfl (Nat.le_of_ble_eq_true rfl) dX5_without_2 ⟨Nat.le_refl _, Nat.le_refl _⟩ (fun H locs hM => ?_)
  refine e_if_eq X (w32 v1) rfl hE dX5_without_5 rfl (fun hE => ?_) (fun hE => ?_)
  · refine e_ldc2 X (-9223372036854775808) q3250 (by decide) dX5_without_15 ?_
    cases hE
    exact r_lret X hM dX5_without_18
  · refine e_aload_n X hl 0 rfl dX5_without_8 rfl ?_
    obtain ⟨v2, M3, h, hE⟩ := ob2_some hE
    refine r_callV1 X hM 40 rfl ck_X5 (rest := []) (met_X5_thinks l G ad hp0 M h) (cwV 0 X.ht (lw_V q3414 q3416 qs111 q170 q3417) rfl rfl rfl hd_X5_thinks (cxR (by decide) (by decide))) rfl hl.1 rfl (Nat.le_of_ble_eq_true rfl) dX5_without_9 ⟨Nat.le_refl _, Nat.le_refl _⟩ (fun H locs hM => ?_)
    refine e_if_ne X (w32 v2) rfl hE dX5_without_12 rfl (fun hE => ?_) (fun hE => ?_)
    · refine e_aload_n X hl 0 rfl dX5_without_19 rfl ?_
      refine e_iload_n X hl 1 rfl dX5_without_20 rfl ?_
      obtain ⟨M4, h, hE⟩ := ob_some hE
      refine r_callV0 X hM 40 rfl ck_X5 (rest := []) (met_X5_closes l G ad hp0 M3 a1 h) (cwV 1 X.ht (lw_V q3234 q3236 qs82 q170 q3237) rfl rfl rfl hd_X5_closes (cxR (by decide) (by decide))) rfl hl.1 rfl (Nat.le_of_ble_eq_true rfl) dX5_without_21 ⟨Nat.le_refl _, Nat.le_refl _⟩ (fun H locs hM => ?_)
      refine e_aload_n X hl 0 rfl dX5_without_24 rfl ?_
      obtain ⟨v5, M6, h, hE⟩ := ob2_some hE
      refine r_callV1 X hM 40 rfl ck_X5 (rest := []) (met_X5_isTotal l G ad hp0 M4 h) (cwV 0 X.ht (lw_V q3382 q3384 qs109 q170 q3385) rfl rfl rfl hd_X5_isTotal (cxR (by decide) (by decide))) rfl hl.1 rfl (Nat.le_of_ble_eq_true rfl) dX5_without_25 ⟨Nat.le_refl _, Nat.le_refl _⟩ (fun H locs hM => ?_)
      obtain ⟨kj7, hkj7, hE⟩ := jn_ex hE
      have hjkj7 : ∀ (v8 : Int) (H : Heap) (locs : List Loc) (ls : Array Slot), RW G dX5 ad hp0 M6 H locs → lv_has ls 4 [(0, .ref (ad 40))] → kj7 v8 = some out → W p l e (rmD 8) s m args below meth c H locs 0 0 (QR below G dX5 ad hp0 args s (some (vL out.1)) out.2) (F0 m 48 ls [vL v8]) := by
        intro v8 H locs ls hM hl hE
        subst hkj7
        refine e_lstore_n X hl [(2, vL v8), (0, .ref (ad 40))] dX5_without_48 rfl (by decide) rfl (fun ls hl => ?_)
        refine e_aload_n X hl 1 rfl dX5_without_49 rfl ?_
        obtain ⟨M9, h, hE⟩ := ob_some hE
        refine r_callV0 X hM 40 rfl ck_X5 (rest := []) (met_X5_thinksNoMore l G ad hp0 M6 h) (cwV 0 X.ht (lw_V q3421 q3423 qs112 q170 q3424) rfl rfl rfl hd_X5_thinksNoMore (cxR (by decide) (by decide))) rfl hl.1 rfl (Nat.le_of_ble_eq_true rfl) dX5_without_50 ⟨Nat.le_refl _, Nat.le_refl _⟩ (fun H locs hM => ?_)
        refine e_lload_n X hl 0 rfl dX5_without_53 rfl ?_
        cases hE
        exact r_lret X hM dX5_without_54
      refine e_if_eq X (w32 v5) rfl hE dX5_without_28 rfl (fun hE => ?_) (fun hE => ?_)
      · refine e_ldc2 X (-9223372036854775808) q3250 (by decide) dX5_without_45 ?_
        exact hjkj7 (-9223372036854775808) _ _ _ hM (lv_sub hl [0] rfl) hE
      · refine e_aload_n X hl 0 rfl dX5_without_31 rfl ?_
        refine r_getJ X hM ck_X5 40 24 rfl rfl (by decide) q3058 rfl dX5_without_32 ?_
        refine e_aload_n X hl 0 rfl dX5_without_35 rfl ?_
        refine r_getJ X hM ck_X5 40 28 rfl rfl (by decide) q3062 rfl dX5_without_36 ?_
        obtain ⟨v10, h, hE⟩ := ob_some hE
        refine r_callS1 X hM (rest := []) (met_X5_more l G ad hp0 M6 (M6 40 24) (M6 40 28) h) (va_cwS 2 X.ht (lw_S q3418 q3419 q170 q3420) rfl rfl rfl hd_X5_more (cxR (by decide) (by decide))) rfl hl.1 rfl (Nat.le_of_ble_eq_true rfl) dX5_without_39 ⟨Nat.le_refl _, Nat.le_refl _⟩ (fun H locs hM => ?_)
        refine e_goto X dX5_without_42 rfl ?_
        exact hjkj7 v10 _ _ _ hM (lv_sub hl [0] rfl) hE
    · refine e_ldc2 X (-9223372036854775808) q3250 (by decide) dX5_without_15 ?_
      cases hE
      exact r_lret X hM dX5_without_18
theorem met_X5_without (l : Launch) (G : GG) (ad : Nat → Nat) (hp0 : HP) {N : Nat} (M : RM) (a1 : Int)  {out : (Int × RM)} (hE : f_X5_without N M a1 = some out) : MR l yX5_without (ws_ yX5_without cX5_without 4 (some .long)) 8 G dX5 ad hp0 [.ref (ad 40), vI a1] M (some (vL out.1)) out.2 :=
  MR.of (by decide) (Nat.le_of_ble_eq_true rfl) rfl (fun p e s m below meth c ls X hM hl => wb_X5_without X hE hM hl)
def f_X5_adding (N : Nat) (M : RM) (a1 : Int) (a2 : Int) (a3 : Int) (a4 : Int) : Option (Int × RM) :=
  ob (f_X5_areTwo M a1 a2) fun v1 => if w32 v1 = 0 then (some ((-9223372036854775808), M)) else (ob (f_X5_areBounds M 0 a3 a4) fun v2 => if w32 v2 = 0 then (some ((-9223372036854775808), M)) else (ob2 (f_X5_thinks N M) fun v3 M4 => if ¬ w32 v3 = 0 then (ob (gA 110 M4 0 1) fun v5 => ob (sA 110 M4 0 1 (v5 + 1)) fun M6 => ob (f_X5_lies M6 v5 a1 a2 0 a3 a4) fun M7 => ob2 (f_X5_isTotal N M7) fun v8 M9 => jn (fun (v11 : Int) => ob (f_X5_thinksNoMore N M9) fun M12 => some (v11, M12)) fun kj10 => if w32 v8 = 0 then (kj10 (-9223372036854775808)) else (ob (f_X5_more M9 (M9 40 28) (M9 40 24)) fun v13 => kj10 v13)) else (some ((-9223372036854775808), M4))))
theorem hd_X5_adding : yX5_adding.cls = RX5 ∧ yX5_adding.cls ≠ "java/lang/invoke/MethodHandle" ∧ yX5_adding.cls ≠ "java/lang/invoke/VarHandle" ∧ (parseMethodDescriptor yX5_adding.desc).map (fun d => d.parameters.length) = some 4 := by decide +kernel
theorem wb_X5_adding {p : Program} {l : Launch} {e : Env} {s : State} {m : MethodId} {args : Array Value} {below : List Frame} {meth : Method} {c : Code} {G : GG} {ad : Nat → Nat} {hp0 : HP} (X : CX p s m args meth c cX5_adding 8 RX5 (some .long) G) {N : Nat} {M : RM} {a1 : Int} {a2 : Int} {a3 : Int} {a4 : Int}   {out : (Int × RM)} (hE : f_X5_adding N M a1 a2 a3 a4 = some out) {H : Heap} {locs : List Loc} {ls : Array Slot} (hM : RW G dX5 ad hp0 M H locs) (hl : lv_has ls 8 [(0, .ref (ad 40)), (1, vI a1), (2, vI a2), (3, vI a3), (4, vL a4)]) : W p l e (rmD 8) s m args below meth c H locs 0 0 (QR below G dX5 ad hp0 args s (some (vL out.1)) out.2) (F0 m 0 ls []) := by
  unfold f_X5_adding at hE
  refine e_aload_n X hl 0 rfl dX5_adding_0 rfl ?_
  refine e_iload_n X hl 1 rfl dX5_adding_1 rfl ?_
  refine e_iload_n X hl 2 rfl dX5_adding_2 rfl ?_
  obtain ⟨v1, h, hE⟩ := ob_some hE
  refine r_callV1 X hM 40 rfl ck_X5 (rest := []) (met_X5_areTwo l G ad hp0 M a1 a2 h) (cwV 2 X.ht (lw_V q3197 q3199 qs76 q170 q3200) rfl rfl rfl hd_X5_areTwo (cxR (by decide) (by decide))) rfl hl.1 rfl (Nat.le_of_ble_eq_true rfl) dX5_adding_3 ⟨Nat.le_refl _, Nat.le_refl _⟩ (fun H locs hM => ?_)
  refine e_if_eq X (w32 v1) rfl hE dX5_adding_6 rfl (fun hE => ?_) (fun hE => ?_)
  · refine e_ldc2 X (-9223372036854775808) q3250 (by decide) dX5_adding_26 ?_
    cases hE
    exact r_lret X hM dX5_adding_29
  · refine e_iconst X dX5_adding_9 ?_
    refine e_iload_n X hl 3 rfl dX5_adding_10 rfl ?_
    refine e_lload X hl 4 rfl dX5_adding_11 ?_
    obtain ⟨v2, h, hE⟩ := ob_some hE
    refine r_callS1 X hM (rest := []) (met_X5_areBounds l G ad hp0 M 0 a3 a4 h) (va_cwS 3 X.ht (lw_S q3201 q3202 q170 q3203) rfl rfl rfl hd_X5_areBounds (cxR (by decide) (by decide))) rfl hl.1 rfl (Nat.le_of_ble_eq_true rfl) dX5_adding_13 ⟨Nat.le_refl _, Nat.le_refl _⟩ (fun H locs hM => ?_)
    refine e_if_eq X (w32 v2) rfl hE dX5_adding_16 rfl (fun hE => ?_) (fun hE => ?_)
    · refine e_ldc2 X (-9223372036854775808) q3250 (by decide) dX5_adding_26 ?_
      cases hE
      exact r_lret X hM dX5_adding_29
    · refine e_aload_n X hl 0 rfl dX5_adding_19 rfl ?_
      obtain ⟨v3, M4, h, hE⟩ := ob2_some hE
      refine r_callV1 X hM 40 rfl ck_X5 (rest := []) (met_X5_thinks l G ad hp0 M h) (cwV 0 X.ht (lw_V q3414 q3416 qs111 q170 q3417) rfl rfl rfl hd_X5_thinks (cxR (by decide) (by decide))) rfl hl.1 rfl (Nat.le_of_ble_eq_true rfl) dX5_adding_20 ⟨Nat.le_refl _, Nat.le_refl _⟩ (fun H locs hM => ?_)
      refine e_if_ne X (w32 v3) rfl hE dX5_adding_23 rfl (fun hE => ?_) (fun hE => ?_)
      · refine e_aload_n X hl 0 rfl dX5_adding_30 rfl ?_
        refine e_aload_n X hl 0 rfl dX5_adding_31 rfl ?_
        refine r_getR X hM ck_X5 40 0 rfl rfl (by decide) q3034 rfl dX5_adding_32 ?_
        refine e_iconst X dX5_adding_35 ?_
        refine e_dup2 X dX5_adding_36 rfl rfl ?_
        refine r_iald X hM 0 rfl (Nat.le_of_ble_eq_true rfl) hE dX5_adding_37 (fun v5 hE => ?_)
        refine e_dup_x2 X dX5_adding_38 rfl rfl rfl ?_
        refine e_iconst X dX5_adding_39 ?_
        refine e_iadd X dX5_adding_40 ?_
        refine r_iast X hM 0 rfl (Nat.le_of_ble_eq_true rfl) hE dX5_adding_41 (fun M6 hE H locs hM => ?_)
        refine e_iload_n X hl 1 rfl dX5_adding_42 rfl ?_
        refine e_iload_n X hl 2 rfl dX5_adding_43 rfl ?_
        refine e_iconst X dX5_adding_44 ?_
        refine e_iload_n X hl 3 rfl dX5_adding_45 rfl ?_
        refine e_lload X hl 4 rfl dX5_adding_46 ?_
        obtain ⟨M7, h, hE⟩ := ob_some hE
        refine r_callV0 X hM 40 rfl ck_X5 (rest := []) (met_X5_lies l G ad hp0 M6 v5 a1 a2 0 a3 a4 h) (cwV 6 X.ht (lw_V q3210 q3212 qs78 q170 q3213) rfl rfl rfl hd_X5_lies (cxR (by decide) (by decide))) rfl hl.1 rfl (Nat.le_of_ble_eq_true rfl) dX5_adding_48 ⟨Nat.le_refl _, Nat.le_refl _⟩ (fun H locs hM => ?_)
        refine e_aload_n X hl 0 rfl dX5_adding_51 rfl ?_
        obtain ⟨v8, M9, h, hE⟩ := ob2_some hE
        refine r_callV1 X hM 40 rfl ck_X5 (rest := []) (met_X5_isTotal l G ad hp0 M7 h) (cwV 0 X.ht (lw_V q3382 q3384 qs109 q170 q3385) rfl rfl rfl hd_X5_isTotal (cxR (by decide) (by decide))) rfl hl.1 rfl (Nat.le_of_ble_eq_true rfl) dX5_adding_52 ⟨Nat.le_refl _, Nat.le_refl _⟩ (fun H locs hM => ?_)
        obtain ⟨kj10, hkj10, hE⟩ := jn_ex hE
        have hjkj10 : ∀ (v11 : Int) (H : Heap) (locs : List Loc) (ls : Array Slot), RW G dX5 ad hp0 M9 H locs → lv_has ls 8 [(0, .ref (ad 40))] → kj10 v11 = some out → W p l e (rmD 8) s m args below meth c H locs 0 0 (QR below G dX5 ad hp0 args s (some (vL out.1)) out.2) (F0 m 75 ls [vL v11]) := by
          intro v11 H locs ls hM hl hE
          subst hkj10
          refine e_lstore X hl [(6, vL v11), (0, .ref (ad 40))] dX5_adding_75 (by decide) rfl (fun ls hl => ?_)
          refine e_aload_n X hl 1 rfl dX5_adding_77 rfl ?_
          obtain ⟨M12, h, hE⟩ := ob_some hE
          refine r_callV0 X hM 40 rfl ck_X5 (rest := []) (met_X5_thinksNoMore l G ad hp0 M9 h) (cwV 0 X.ht (lw_V q3421 q3423 qs112 q170 q3424) rfl rfl rfl hd_X5_thinksNoMore (cxR (by decide) (by decide))) rfl hl.1 rfl (Nat.le_of_ble_eq_true rfl) dX5_adding_78 ⟨Nat.le_refl _, Nat.le_refl _⟩ (fun H locs hM => ?_)
          refine e_lload X hl 0 rfl dX5_adding_81 ?_
          cases hE
          exact r_lret X hM dX5_adding_83
        refine e_if_eq X (w32 v8) rfl hE dX5_adding_55 rfl (fun hE => ?_) (fun hE => ?_)
        · refine e_ldc2 X (-9223372036854775808) q3250 (by decide) dX5_adding_72 ?_
          exact hjkj10 (-9223372036854775808) _ _ _ hM (lv_sub hl [0] rfl) hE
        · refine e_aload_n X hl 0 rfl dX5_adding_58 rfl ?_
          refine r_getJ X hM ck_X5 40 28 rfl rfl (by decide) q3062 rfl dX5_adding_59 ?_
          refine e_aload_n X hl 0 rfl dX5_adding_62 rfl ?_
          refine r_getJ X hM ck_X5 40 24 rfl rfl (by decide) q3058 rfl dX5_adding_63 ?_
          obtain ⟨v13, h, hE⟩ := ob_some hE
          refine r_callS1 X hM (rest := []) (met_X5_more l G ad hp0 M9 (M9 40 28) (M9 40 24) h) (va_cwS 2 X.ht (lw_S q3418 q3419 q170 q3420) rfl rfl rfl hd_X5_more (cxR (by decide) (by decide))) rfl hl.1 rfl (Nat.le_of_ble_eq_true rfl) dX5_adding_66 ⟨Nat.le_refl _, Nat.le_refl _⟩ (fun H locs hM => ?_)
          refine e_goto X dX5_adding_69 rfl ?_
          exact hjkj10 v13 _ _ _ hM (lv_sub hl [0] rfl) hE
      · refine e_ldc2 X (-9223372036854775808) q3250 (by decide) dX5_adding_26 ?_
        cases hE
        exact r_lret X hM dX5_adding_29
theorem met_X5_adding (l : Launch) (G : GG) (ad : Nat → Nat) (hp0 : HP) {N : Nat} (M : RM) (a1 : Int) (a2 : Int) (a3 : Int) (a4 : Int)  {out : (Int × RM)} (hE : f_X5_adding N M a1 a2 a3 a4 = some out) : MR l yX5_adding (ws_ yX5_adding cX5_adding 8 (some .long)) 8 G dX5 ad hp0 [.ref (ad 40), vI a1, vI a2, vI a3, vL a4] M (some (vL out.1)) out.2 :=
  MR.of (by decide) (Nat.le_of_ble_eq_true rfl) rfl (fun p e s m below meth c ls X hM hl => wb_X5_adding X hE hM hl)
def f_X5_sends_2 (M : RM) (a1 : Int) (a2 : Int) (a3 : Int) : Option RM :=
  ob (gA 110 M 0 (2 + a1)) fun v1 => ob (sA 110 M 0 (2 + a1) (v1 + a3)) fun M2 => ob (gA 110 M2 0 (2 + a2)) fun v3 => ob (sA 110 M2 0 (2 + a2) (v3 - a3)) fun M4 => some M4
theorem hd_X5_sends_2 : yX5_sends_2.cls = RX5 ∧ yX5_sends_2.cls ≠ "java/lang/invoke/MethodHandle" ∧ yX5_sends_2.cls ≠ "java/lang/invoke/VarHandle" ∧ (parseMethodDescriptor yX5_sends_2.desc).map (fun d => d.parameters.length) = some 3 := by decide +kernel
theorem wb_X5_sends_2 {p : Program} {l : Launch} {e : Env} {s : State} {m : MethodId} {args : Array Value} {below : List Frame} {meth : Method} {c : Code} {G : GG} {ad : Nat → Nat} {hp0 : HP} (X : CX p s m args meth c cX5_sends_2 4 RX5 none G) {M : RM} {a1 : Int} {a2 : Int} {a3 : Int}   {out : RM} (hE : f_X5_sends_2 M a1 a2 a3 = some out) {H : Heap} {locs : List Loc} {ls : Array Slot} (hM : RW G dX5 ad hp0 M H locs) (hl : lv_has ls 4 [(0, .ref (ad 40)), (1, vI a1), (2, vI a2), (3, vI a3)]) : W p l e (rmD 0) s m args below meth c H locs 0 0 (QR below G dX5 ad hp0 args s none out) (F0 m 0 ls []) := by
  unfold f_X5_sends_2 at hE
  refine e_aload_n X hl 0 rfl dX5_sends_2_0 rfl ?_
  refine r_getR X hM ck_X5 40 0 rfl rfl (by decide) q3034 rfl dX5_sends_2_1 ?_
  refine e_iconst X dX5_sends_2_4 ?_
  refine e_iload_n X hl 1 rfl dX5_sends_2_5 rfl ?_
  refine e_iadd X dX5_sends_2_6 ?_
  refine e_dup2 X dX5_sends_2_7 rfl rfl ?_
  refine r_iald X hM 0 rfl (Nat.le_of_ble_eq_true rfl) hE dX5_sends_2_8 (fun v1 hE => ?_)
  refine e_iload_n X hl 3 rfl dX5_sends_2_9 rfl ?_
  refine e_iadd X dX5_sends_2_10 ?_
  refine r_iast X hM 0 rfl (Nat.le_of_ble_eq_true rfl) hE dX5_sends_2_11 (fun M2 hE H locs hM => ?_)
  refine e_aload_n X hl 0 rfl dX5_sends_2_12 rfl ?_
  refine r_getR X hM ck_X5 40 0 rfl rfl (by decide) q3034 rfl dX5_sends_2_13 ?_
  refine e_iconst X dX5_sends_2_16 ?_
  refine e_iload_n X hl 2 rfl dX5_sends_2_17 rfl ?_
  refine e_iadd X dX5_sends_2_18 ?_
  refine e_dup2 X dX5_sends_2_19 rfl rfl ?_
  refine r_iald X hM 0 rfl (Nat.le_of_ble_eq_true rfl) hE dX5_sends_2_20 (fun v3 hE => ?_)
  refine e_iload_n X hl 3 rfl dX5_sends_2_21 rfl ?_
  refine e_isub X dX5_sends_2_22 ?_
  refine r_iast X hM 0 rfl (Nat.le_of_ble_eq_true rfl) hE dX5_sends_2_23 (fun M4 hE H locs hM => ?_)
  cases hE
  exact r_vret X hM dX5_sends_2_24
theorem met_X5_sends_2 (l : Launch) (G : GG) (ad : Nat → Nat) (hp0 : HP) (M : RM) (a1 : Int) (a2 : Int) (a3 : Int)  {out : RM} (hE : f_X5_sends_2 M a1 a2 a3 = some out) : MR l yX5_sends_2 (ws_ yX5_sends_2 cX5_sends_2 4 none) 0 G dX5 ad hp0 [.ref (ad 40), vI a1, vI a2, vI a3] M none out :=
  MR.of (by decide) (Nat.le_of_ble_eq_true rfl) rfl (fun p e s m below meth c ls X hM hl => wb_X5_sends_2 X hE hM hl)
def f_X5_sent (N : Nat) (M : RM) (a1 : Int) (a2 : Int) (a3 : Int) : Option (Int × RM) :=
  ob (f_X5_areTwo M a1 a2) fun v1 => if w32 v1 = 0 then (some ((-9223372036854775808), M)) else (ob (f_X5_in M (w32 a3) 0 99) fun v2 => if w32 v2 = 0 then (some ((-9223372036854775808), M)) else (ob2 (f_X5_thinks N M) fun v3 M4 => if ¬ w32 v3 = 0 then (ob (f_X5_sends_2 M4 a1 a2 a3) fun M5 => ob2 (f_X5_isTotal N M5) fun v6 M7 => jn (fun (v9 : Int) => ob (f_X5_thinksNoMore N M7) fun M10 => some (v9, M10)) fun kj8 => if w32 v6 = 0 then (kj8 (-9223372036854775808)) else (ob (f_X5_more M7 (M7 40 24) (M7 40 28)) fun v11 => kj8 v11)) else (some ((-9223372036854775808), M4))))
theorem hd_X5_sent : yX5_sent.cls = RX5 ∧ yX5_sent.cls ≠ "java/lang/invoke/MethodHandle" ∧ yX5_sent.cls ≠ "java/lang/invoke/VarHandle" ∧ (parseMethodDescriptor yX5_sent.desc).map (fun d => d.parameters.length) = some 3 := by decide +kernel
theorem wb_X5_sent {p : Program} {l : Launch} {e : Env} {s : State} {m : MethodId} {args : Array Value} {below : List Frame} {meth : Method} {c : Code} {G : GG} {ad : Nat → Nat} {hp0 : HP} (X : CX p s m args meth c cX5_sent 6 RX5 (some .long) G) {N : Nat} {M : RM} {a1 : Int} {a2 : Int} {a3 : Int}   {out : (Int × RM)} (hE : f_X5_sent N M a1 a2 a3 = some out) {H : Heap} {locs : List Loc} {ls : Array Slot} (hM : RW G dX5 ad hp0 M H locs) (hl : lv_has ls 6 [(0, .ref (ad 40)), (1, vI a1), (2, vI a2), (3, vI a3)]) : W p l e (rmD 8) s m args below meth c H locs 0 0 (QR below G dX5 ad hp0 args s (some (vL out.1)) out.2) (F0 m 0 ls []) := by
  unfold f_X5_sent at hE
  refine e_aload_n X hl 0 rfl dX5_sent_0 rfl ?_
  refine e_iload_n X hl 1 rfl dX5_sent_1 rfl ?_
  refine e_iload_n X hl 2 rfl dX5_sent_2 rfl ?_
  obtain ⟨v1, h, hE⟩ := ob_some hE
  refine r_callV1 X hM 40 rfl ck_X5 (rest := []) (met_X5_areTwo l G ad hp0 M a1 a2 h) (cwV 2 X.ht (lw_V q3197 q3199 qs76 q170 q3200) rfl rfl rfl hd_X5_areTwo (cxR (by decide) (by decide))) rfl hl.1 rfl (Nat.le_of_ble_eq_true rfl) dX5_sent_3 ⟨Nat.le_refl _, Nat.le_refl _⟩ (fun H locs hM => ?_)
  refine e_if_eq X (w32 v1) rfl hE dX5_sent_6 rfl (fun hE => ?_) (fun hE => ?_)
  · refine e_ldc2 X (-9223372036854775808) q3250 (by decide) dX5_sent_28 ?_
    cases hE
    exact r_lret X hM dX5_sent_31
  · refine e_iload_n X hl 3 rfl dX5_sent_9 rfl ?_
    refine e_i2l X dX5_sent_10 ?_
    refine e_lconst X 0 dX5_sent_11 (by decide) ?_
    refine e_ldc2 X 99 q3192 (by decide) dX5_sent_12 ?_
    obtain ⟨v2, h, hE⟩ := ob_some hE
    refine r_callS1 X hM (rest := []) (met_X5_in l G ad hp0 M (w32 a3) 0 99 h) (va_cwS 3 X.ht (lw_S q3172 q3173 q170 q3174) rfl rfl rfl hd_X5_in (cxR (by decide) (by decide))) rfl hl.1 rfl (Nat.le_of_ble_eq_true rfl) dX5_sent_15 ⟨Nat.le_refl _, Nat.le_refl _⟩ (fun H locs hM => ?_)
    refine e_if_eq X (w32 v2) rfl hE dX5_sent_18 rfl (fun hE => ?_) (fun hE => ?_)
    · refine e_ldc2 X (-9223372036854775808) q3250 (by decide) dX5_sent_28 ?_
      cases hE
      exact r_lret X hM dX5_sent_31
    · refine e_aload_n X hl 0 rfl dX5_sent_21 rfl ?_
      obtain ⟨v3, M4, h, hE⟩ := ob2_some hE
      refine r_callV1 X hM 40 rfl ck_X5 (rest := []) (met_X5_thinks l G ad hp0 M h) (cwV 0 X.ht (lw_V q3414 q3416 qs111 q170 q3417) rfl rfl rfl hd_X5_thinks (cxR (by decide) (by decide))) rfl hl.1 rfl (Nat.le_of_ble_eq_true rfl) dX5_sent_22 ⟨Nat.le_refl _, Nat.le_refl _⟩ (fun H locs hM => ?_)
      refine e_if_ne X (w32 v3) rfl hE dX5_sent_25 rfl (fun hE => ?_) (fun hE => ?_)
      · refine e_aload_n X hl 0 rfl dX5_sent_32 rfl ?_
        refine e_iload_n X hl 1 rfl dX5_sent_33 rfl ?_
        refine e_iload_n X hl 2 rfl dX5_sent_34 rfl ?_
        refine e_iload_n X hl 3 rfl dX5_sent_35 rfl ?_
        obtain ⟨M5, h, hE⟩ := ob_some hE
        refine r_callV0 X hM 40 rfl ck_X5 (rest := []) (met_X5_sends_2 l G ad hp0 M4 a1 a2 a3 h) (cwV 3 X.ht (lw_V q3437 q3439 qs113 q170 q3440) rfl rfl rfl hd_X5_sends_2 (cxR (by decide) (by decide))) rfl hl.1 rfl (Nat.le_of_ble_eq_true rfl) dX5_sent_36 ⟨Nat.le_refl _, Nat.le_refl _⟩ (fun H locs hM => ?_)
        refine e_aload_n X hl 0 rfl dX5_sent_39 rfl ?_
        obtain ⟨v6, M7, h, hE⟩ := ob2_some hE
        refine r_callV1 X hM 40 rfl ck_X5 (rest := []) (met_X5_isTotal l G ad hp0 M5 h) (cwV 0 X.ht (lw_V q3382 q3384 qs109 q170 q3385) rfl rfl rfl hd_X5_isTotal (cxR (by decide) (by decide))) rfl hl.1 rfl (Nat.le_of_ble_eq_true rfl) dX5_sent_40 ⟨Nat.le_refl _, Nat.le_refl _⟩ (fun H locs hM => ?_)
        obtain ⟨kj8, hkj8, hE⟩ := jn_ex hE
        have hjkj8 : ∀ (v9 : Int) (H : Heap) (locs : List Loc) (ls : Array Slot), RW G dX5 ad hp0 M7 H locs → lv_has ls 6 [(0, .ref (ad 40))] → kj8 v9 = some out → W p l e (rmD 8) s m args below meth c H locs 0 0 (QR below G dX5 ad hp0 args s (some (vL out.1)) out.2) (F0 m 63 ls [vL v9]) := by
          intro v9 H locs ls hM hl hE
          subst hkj8
          refine e_lstore X hl [(4, vL v9), (0, .ref (ad 40))] dX5_sent_63 (by decide) rfl (fun ls hl => ?_)
          refine e_aload_n X hl 1 rfl dX5_sent_65 rfl ?_
          obtain ⟨M10, h, hE⟩ := ob_some hE
          refine r_callV0 X hM 40 rfl ck_X5 (rest := []) (met_X5_thinksNoMore l G ad hp0 M7 h) (cwV 0 X.ht (lw_V q3421 q3423 qs112 q170 q3424) rfl rfl rfl hd_X5_thinksNoMore (cxR (by decide) (by decide))) rfl hl.1 rfl (Nat.le_of_ble_eq_true rfl) dX5_sent_66 ⟨Nat.le_refl _, Nat.le_refl _⟩ (fun H locs hM => ?_)
          refine e_lload X hl 0 rfl dX5_sent_69 ?_
          cases hE
          exact r_lret X hM dX5_sent_71
        refine e_if_eq X (w32 v6) rfl hE dX5_sent_43 rfl (fun hE => ?_) (fun hE => ?_)
        · refine e_ldc2 X (-9223372036854775808) q3250 (by decide) dX5_sent_60 ?_
          exact hjkj8 (-9223372036854775808) _ _ _ hM (lv_sub hl [0] rfl) hE
        · refine e_aload_n X hl 0 rfl dX5_sent_46 rfl ?_
          refine r_getJ X hM ck_X5 40 24 rfl rfl (by decide) q3058 rfl dX5_sent_47 ?_
          refine e_aload_n X hl 0 rfl dX5_sent_50 rfl ?_
          refine r_getJ X hM ck_X5 40 28 rfl rfl (by decide) q3062 rfl dX5_sent_51 ?_
          obtain ⟨v11, h, hE⟩ := ob_some hE
          refine r_callS1 X hM (rest := []) (met_X5_more l G ad hp0 M7 (M7 40 24) (M7 40 28) h) (va_cwS 2 X.ht (lw_S q3418 q3419 q170 q3420) rfl rfl rfl hd_X5_more (cxR (by decide) (by decide))) rfl hl.1 rfl (Nat.le_of_ble_eq_true rfl) dX5_sent_54 ⟨Nat.le_refl _, Nat.le_refl _⟩ (fun H locs hM => ?_)
          refine e_goto X dX5_sent_57 rfl ?_
          exact hjkj8 v11 _ _ _ hM (lv_sub hl [0] rfl) hE
      · refine e_ldc2 X (-9223372036854775808) q3250 (by decide) dX5_sent_28 ?_
        cases hE
        exact r_lret X hM dX5_sent_31
theorem met_X5_sent (l : Launch) (G : GG) (ad : Nat → Nat) (hp0 : HP) {N : Nat} (M : RM) (a1 : Int) (a2 : Int) (a3 : Int)  {out : (Int × RM)} (hE : f_X5_sent N M a1 a2 a3 = some out) : MR l yX5_sent (ws_ yX5_sent cX5_sent 6 (some .long)) 8 G dX5 ad hp0 [.ref (ad 40), vI a1, vI a2, vI a3] M (some (vL out.1)) out.2 :=
  MR.of (by decide) (Nat.le_of_ble_eq_true rfl) rfl (fun p e s m below meth c ls X hM hl => wb_X5_sent X hE hM hl)
def f_X5_greatest_L26 (N : Nat) (b1 : Int) (b2 : Int) (k : RM → Int → Int → Option (Int × RM)) : Nat → RM → Int → Int → Option (Int × RM)
  | 0, _, _, _ => none
  | n + 1, M, x3, x4 =>
    if 99 ≤ w32 x3 then (k M x3 x4) else (if w32 x4 = 0 then (k M x3 x4) else (ob (f_X5_sends_2 M b1 b2 1) fun M4 => ob2 (f_X5_isCheap N M4) fun v5 M6 => if w32 v5 = 0 then (ob (f_X5_sends_2 M6 b2 b1 1) fun M7 => f_X5_greatest_L26 N b1 b2 k n M7 x3 v5) else (jn (x3 + 1) fun v8 => f_X5_greatest_L26 N b1 b2 k n M6 v8 v5)))
def f_X5_greatest (N : Nat) (M : RM) (a1 : Int) (a2 : Int) : Option (Int × RM) :=
  ob (f_X5_areTwo M a1 a2) fun v1 => if ¬ w32 v1 = 0 then (ob2 (f_X5_isCheap N M) fun v2 M3 => if ¬ w32 v2 = 0 then (f_X5_greatest_L26 N a1 a2 (fun (M9 : RM) (v10 : Int) (v11 : Int) => ob (f_X5_sends_2 M9 a2 a1 v10) fun M12 => some (v10, M12)) N M3 0 1) else (some ((-3), M3))) else (some ((-1), M))
theorem hd_X5_greatest : yX5_greatest.cls = RX5 ∧ yX5_greatest.cls ≠ "java/lang/invoke/MethodHandle" ∧ yX5_greatest.cls ≠ "java/lang/invoke/VarHandle" ∧ (parseMethodDescriptor yX5_greatest.desc).map (fun d => d.parameters.length) = some 2 := by decide +kernel
theorem wl_X5_greatest_26 {p : Program} {l : Launch} {e : Env} {s : State} {m : MethodId} {args : Array Value} {below : List Frame} {meth : Method} {c : Code} {G : GG} {ad : Nat → Nat} {hp0 : HP} (X : CX p s m args meth c cX5_greatest 5 RX5 (some .int) G) {N : Nat} {b1 : Int} {b2 : Int}  {k : RM → Int → Int → Option (Int × RM)} {out : (Int × RM)} : ∀ (n : Nat) (M : RM) (x3 : Int) (x4 : Int) (H : Heap) (locs : List Loc) (ls : Array Slot) (hE : f_X5_greatest_L26 N b1 b2 k n M x3 x4 = some out) (hM : RW G dX5 ad hp0 M H locs) (hl : lv_has ls 5 [(0, .ref (ad 40)), (1, vI b1), (2, vI b2), (3, vI x3), (4, vI x4)]) (hk : ∀ (M : RM) (x3 : Int) (x4 : Int) (H : Heap) (locs : List Loc) (ls : Array Slot), RW G dX5 ad hp0 M H locs → lv_has ls 5 [(0, .ref (ad 40)), (1, vI b1), (2, vI b2), (3, vI x3), (4, vI x4)] → k M x3 x4 = some out → W p l e (rmD 5) s m args below meth c H locs 0 0 (QR below G dX5 ad hp0 args s (some (vI out.1)) out.2) (F0 m 71 ls [])), W p l e (rmD 5) s m args below meth c H locs 0 0 (QR below G dX5 ad hp0 args s (some (vI out.1)) out.2) (F0 m 26 ls []) := by
  intro n
  induction n with
  | zero =>
    intro M x3 x4 H locs ls hE hM hl hk
    unfold f_X5_greatest_L26 at hE
    cases hE
  | succ n ih =>
    intro M x3 x4 H locs ls hE hM hl hk
    unfold f_X5_greatest_L26 at hE
    refine e_iload_n X hl 3 rfl dX5_greatest_26 rfl ?_
    refine e_bipush X dX5_greatest_27 (by decide) ?_
    refine e_icmp_ge X (w32 x3) 99 rfl (by decide) hE dX5_greatest_29 rfl (fun hE => ?_) (fun hE => ?_)
    · exact hk M x3 x4 _ _ _ hM (lv_sub hl [0, 1, 2, 3, 4] rfl) hE
    · refine e_iload X hl 4 rfl dX5_greatest_32 ?_
      refine e_if_eq X (w32 x4) rfl hE dX5_greatest_34 rfl (fun hE => ?_) (fun hE => ?_)
      · exact hk M x3 x4 _ _ _ hM (lv_sub hl [0, 1, 2, 3, 4] rfl) hE
      · refine e_aload_n X hl 0 rfl dX5_greatest_37 rfl ?_
        refine e_iload_n X hl 1 rfl dX5_greatest_38 rfl ?_
        refine e_iload_n X hl 2 rfl dX5_greatest_39 rfl ?_
        refine e_iconst X dX5_greatest_40 ?_
        obtain ⟨M4, h, hE⟩ := ob_some hE
        refine r_callV0 X hM 40 rfl ck_X5 (rest := []) (met_X5_sends_2 l G ad hp0 M b1 b2 1 h) (cwV 3 X.ht (lw_V q3437 q3439 qs113 q170 q3440) rfl rfl rfl hd_X5_sends_2 (cxR (by decide) (by decide))) rfl hl.1 rfl (Nat.le_of_ble_eq_true rfl) dX5_greatest_41 ⟨Nat.le_refl _, Nat.le_refl _⟩ (fun H locs hM => ?_)
        refine e_aload_n X hl 0 rfl dX5_greatest_44 rfl ?_
        obtain ⟨v5, M6, h, hE⟩ := ob2_some hE
        refine r_callV1 X hM 40 rfl ck_X5 (rest := []) (met_X5_isCheap l G ad hp0 M4 h) (cwV 0 X.ht (lw_V q3314 q3316 qs95 q170 q3317) rfl rfl rfl hd_X5_isCheap (cxR (by decide) (by decide))) rfl hl.1 rfl (Nat.le_of_ble_eq_true rfl) dX5_greatest_45 ⟨Nat.le_refl _, Nat.le_refl _⟩ (fun H locs hM => ?_)
        refine e_istore X hl [(4, vI v5), (0, .ref (ad 40)), (1, vI b1), (2, vI b2), (3, vI x3)] dX5_greatest_48 (by decide) rfl (fun ls hl => ?_)
        refine e_iload X hl 0 rfl dX5_greatest_50 ?_
        refine e_if_eq X (w32 v5) rfl hE dX5_greatest_52 rfl (fun hE => ?_) (fun hE => ?_)
        · refine e_aload_n X hl 1 rfl dX5_greatest_61 rfl ?_
          refine e_iload_n X hl 3 rfl dX5_greatest_62 rfl ?_
          refine e_iload_n X hl 2 rfl dX5_greatest_63 rfl ?_
          refine e_iconst X dX5_greatest_64 ?_
          obtain ⟨M7, h, hE⟩ := ob_some hE
          refine r_callV0 X hM 40 rfl ck_X5 (rest := []) (met_X5_sends_2 l G ad hp0 M6 b2 b1 1 h) (cwV 3 X.ht (lw_V q3437 q3439 qs113 q170 q3440) rfl rfl rfl hd_X5_sends_2 (cxR (by decide) (by decide))) rfl hl.1 rfl (Nat.le_of_ble_eq_true rfl) dX5_greatest_65 ⟨Nat.le_refl _, Nat.le_refl _⟩ (fun H locs hM => ?_)
          refine e_goto X dX5_greatest_68 rfl ?_
          exact ih M7 x3 v5 _ _ _ hE hM (lv_sub hl [1, 2, 3, 4, 0] rfl) hk
        · refine e_iinc X hl 4 hE (fun v8 => [(3, vI v8), (4, vI v5), (0, .ref (ad 40)), (1, vI b1), (2, vI b2)]) rfl dX5_greatest_55 (by decide) (fun _ => rfl) (fun v8 hE ls hl => ?_)
          refine e_goto X dX5_greatest_58 rfl ?_
          exact ih M6 v8 v5 _ _ _ hE hM (lv_sub hl [2, 3, 4, 0, 1] rfl) hk
theorem wb_X5_greatest {p : Program} {l : Launch} {e : Env} {s : State} {m : MethodId} {args : Array Value} {below : List Frame} {meth : Method} {c : Code} {G : GG} {ad : Nat → Nat} {hp0 : HP} (X : CX p s m args meth c cX5_greatest 5 RX5 (some .int) G) {N : Nat} {M : RM} {a1 : Int} {a2 : Int}   {out : (Int × RM)} (hE : f_X5_greatest N M a1 a2 = some out) {H : Heap} {locs : List Loc} {ls : Array Slot} (hM : RW G dX5 ad hp0 M H locs) (hl : lv_has ls 5 [(0, .ref (ad 40)), (1, vI a1), (2, vI a2)]) : W p l e (rmD 5) s m args below meth c H locs 0 0 (QR below G dX5 ad hp0 args s (some (vI out.1)) out.2) (F0 m 0 ls []) := by
  unfold f_X5_greatest at hE
  refine e_aload_n X hl 0 rfl dX5_greatest_0 rfl ?_
  refine e_iload_n X hl 1 rfl dX5_greatest_1 rfl ?_
  refine e_iload_n X hl 2 rfl dX5_greatest_2 rfl ?_
  obtain ⟨v1, h, hE⟩ := ob_some hE
  refine r_callV1 X hM 40 rfl ck_X5 (rest := []) (met_X5_areTwo l G ad hp0 M a1 a2 h) (cwV 2 X.ht (lw_V q3197 q3199 qs76 q170 q3200) rfl rfl rfl hd_X5_areTwo (cxR (by decide) (by decide))) rfl hl.1 rfl (Nat.le_of_ble_eq_true rfl) dX5_greatest_3 ⟨Nat.le_refl _, Nat.le_refl _⟩ (fun H locs hM => ?_)
  refine e_if_ne X (w32 v1) rfl hE dX5_greatest_6 rfl (fun hE => ?_) (fun hE => ?_)
  · refine e_aload_n X hl 0 rfl dX5_greatest_11 rfl ?_
    obtain ⟨v2, M3, h, hE⟩ := ob2_some hE
    refine r_callV1 X hM 40 rfl ck_X5 (rest := []) (met_X5_isCheap l G ad hp0 M h) (cwV 0 X.ht (lw_V q3314 q3316 qs95 q170 q3317) rfl rfl rfl hd_X5_isCheap (cxR (by decide) (by decide))) rfl hl.1 rfl (Nat.le_of_ble_eq_true rfl) dX5_greatest_12 ⟨Nat.le_refl _, Nat.le_refl _⟩ (fun H locs hM => ?_)
    refine e_if_ne X (w32 v2) rfl hE dX5_greatest_15 rfl (fun hE => ?_) (fun hE => ?_)
    · refine e_iconst X dX5_greatest_21 ?_
      refine e_istore_n X hl [(3, vI 0), (0, .ref (ad 40)), (1, vI a1), (2, vI a2)] dX5_greatest_22 rfl (by decide) rfl (fun ls hl => ?_)
      refine e_iconst X dX5_greatest_23 ?_
      refine e_istore X hl [(4, vI 1), (3, vI 0), (0, .ref (ad 40)), (1, vI a1), (2, vI a2)] dX5_greatest_24 (by decide) rfl (fun ls hl => ?_)
      refine wl_X5_greatest_26 X _ M3 0 1 _ _ _ hE hM (lv_sub hl [2, 3, 4, 1, 0] rfl) (fun M9 v10 v11 H locs ls hM hl hE => ?_)
      refine e_aload_n X hl 0 rfl dX5_greatest_71 rfl ?_
      refine e_iload_n X hl 2 rfl dX5_greatest_72 rfl ?_
      refine e_iload_n X hl 1 rfl dX5_greatest_73 rfl ?_
      refine e_iload_n X hl 3 rfl dX5_greatest_74 rfl ?_
      obtain ⟨M12, h, hE⟩ := ob_some hE
      refine r_callV0 X hM 40 rfl ck_X5 (rest := []) (met_X5_sends_2 l G ad hp0 M9 a2 a1 v10 h) (cwV 3 X.ht (lw_V q3437 q3439 qs113 q170 q3440) rfl rfl rfl hd_X5_sends_2 (cxR (by decide) (by decide))) rfl hl.1 rfl (Nat.le_of_ble_eq_true rfl) dX5_greatest_75 ⟨Nat.le_refl _, Nat.le_refl _⟩ (fun H locs hM => ?_)
      refine e_iload_n X hl 3 rfl dX5_greatest_78 rfl ?_
      cases hE
      exact r_zret X hM rfl dX5_greatest_79
    · refine e_bipush X dX5_greatest_18 (by decide) ?_
      cases hE
      exact r_zret (x := (-3)) X hM rfl dX5_greatest_20
  · refine e_iconst X dX5_greatest_9 ?_
    cases hE
    exact r_zret (x := (-1)) X hM rfl dX5_greatest_10
theorem met_X5_greatest (l : Launch) (G : GG) (ad : Nat → Nat) (hp0 : HP) {N : Nat} (M : RM) (a1 : Int) (a2 : Int)  {out : (Int × RM)} (hE : f_X5_greatest N M a1 a2 = some out) : MR l yX5_greatest (ws_ yX5_greatest cX5_greatest 5 (some .int)) 5 G dX5 ad hp0 [.ref (ad 40), vI a1, vI a2] M (some (vI out.1)) out.2 :=
  MR.of (by decide) (Nat.le_of_ble_eq_true rfl) rfl (fun p e s m below meth c ls X hM hl => wb_X5_greatest X hE hM hl)
def f_X5_stretched_L121 (N : Nat) (b1 : Int) (b2 : Int) (b3 : Int) (k : RM → Int → Option (Int × RM)) : Nat → RM → Int → Option (Int × RM)
  | 0, _, _ => none
  | n + 1, M, x4 =>
    if w32 x4 = w32 b1 then (k M x4) else (ob (gA 8 M 17 x4) fun v10 => ob (f_X5_goes M v10 1) fun M11 => ob (gA 8 M11 17 x4) fun v12 => ob (f_X5_leads M11 v12 1) fun v13 => f_X5_stretched_L121 N b1 b2 b3 k n M11 v13)
def f_X5_stretched_L21 (N : Nat) (b1 : Int) (b2 : Int) (k : RM → Int → Option (Int × RM)) : Nat → RM → Int → Option (Int × RM)
  | 0, _, _ => none
  | n + 1, M, x3 =>
    if 99 ≤ w32 x3 then (k M x3) else (ob (gA 8 M 16 b2) fun v5 => if w64 v5 = 9223372036854775807 then (k M x3) else (jn (fun (M7 : RM) => ob (gA 99 M7 31 ((M7 40 29) - 1)) fun v8 => ob (sA 99 M7 31 ((M7 40 29) - 1) (v8 + 1)) fun M9 => f_X5_stretched_L121 N b1 b2 x3 (fun (M14 : RM) (v15 : Int) => jn (x3 + 1) fun v16 => ob (f_X5_reaches N M14 b1) fun M17 => f_X5_stretched_L21 N b1 b2 k n M17 v16) N M9 b2) fun kj6 => if w32 (M 40 29) = 0 then (ob (gA 8 M 16 b2) fun v18 => ob (sA 99 M 30 (M 40 29) v18) fun M19 => ob (sA 99 M19 31 (M19 40 29) 0) fun M20 => jn (up2 M20 40 29 ((M20 40 29) + 1)) fun M21 => kj6 M21) else (ob (gA 99 M 30 ((M 40 29) - 1)) fun v22 => ob (gA 8 M 16 b2) fun v23 => if w64 v22 = w64 v23 then (kj6 M) else (ob (gA 8 M 16 b2) fun v24 => ob (sA 99 M 30 (M 40 29) v24) fun M25 => ob (sA 99 M25 31 (M25 40 29) 0) fun M26 => jn (up2 M26 40 29 ((M26 40 29) + 1)) fun M27 => kj6 M27))))
def f_X5_stretched (N : Nat) (M : RM) (a1 : Int) (a2 : Int) : Option (Int × RM) :=
  jn (up2 M 40 29 0) fun M1 => ob2 (f_X5_isCheap N M1) fun v2 M3 => if ¬ w32 v2 = 0 then (ob (f_X5_reaches N M3 a1) fun M4 => f_X5_stretched_L21 N a1 a2 (fun (M28 : RM) (v29 : Int) => some (1, M28)) N M4 0) else (some (0, M3))
theorem hd_X5_stretched : yX5_stretched.cls = RX5 ∧ yX5_stretched.cls ≠ "java/lang/invoke/MethodHandle" ∧ yX5_stretched.cls ≠ "java/lang/invoke/VarHandle" ∧ (parseMethodDescriptor yX5_stretched.desc).map (fun d => d.parameters.length) = some 2 := by decide +kernel
theorem wl_X5_stretched_121 {p : Program} {l : Launch} {e : Env} {s : State} {m : MethodId} {args : Array Value} {below : List Frame} {meth : Method} {c : Code} {G : GG} {ad : Nat → Nat} {hp0 : HP} (X : CX p s m args meth c cX5_stretched 5 RX5 (some .boolean) G) {N : Nat} {b1 : Int} {b2 : Int} {b3 : Int}  {k : RM → Int → Option (Int × RM)} {out : (Int × RM)} : ∀ (n : Nat) (M : RM) (x4 : Int) (H : Heap) (locs : List Loc) (ls : Array Slot) (hE : f_X5_stretched_L121 N b1 b2 b3 k n M x4 = some out) (hM : RW G dX5 ad hp0 M H locs) (hl : lv_has ls 5 [(0, .ref (ad 40)), (1, vI b1), (2, vI b2), (3, vI b3), (4, vI x4)]) (hk : ∀ (M : RM) (x4 : Int) (H : Heap) (locs : List Loc) (ls : Array Slot), RW G dX5 ad hp0 M H locs → lv_has ls 5 [(0, .ref (ad 40)), (1, vI b1), (2, vI b2), (3, vI b3), (4, vI x4)] → k M x4 = some out → W p l e (rmD 5) s m args below meth c H locs 0 0 (QR below G dX5 ad hp0 args s (some (vI out.1)) out.2) (F0 m 156 ls [])), W p l e (rmD 5) s m args below meth c H locs 0 0 (QR below G dX5 ad hp0 args s (some (vI out.1)) out.2) (F0 m 121 ls []) := by
  intro n
  induction n with
  | zero =>
    intro M x4 H locs ls hE hM hl hk
    unfold f_X5_stretched_L121 at hE
    cases hE
  | succ n ih =>
    intro M x4 H locs ls hE hM hl hk
    unfold f_X5_stretched_L121 at hE
    refine e_iload X hl 4 rfl dX5_stretched_121 ?_
    refine e_iload_n X hl 1 rfl dX5_stretched_123 rfl ?_
    refine e_icmp_eq X (w32 x4) (w32 b1) rfl rfl hE dX5_stretched_124 rfl (fun hE => ?_) (fun hE => ?_)
    · exact hk M x4 _ _ _ hM (lv_sub hl [0, 1, 2, 3, 4] rfl) hE
    · refine e_aload_n X hl 0 rfl dX5_stretched_127 rfl ?_
      refine e_aload_n X hl 0 rfl dX5_stretched_128 rfl ?_
      refine r_getR X hM ck_X5 40 17 rfl rfl (by decide) q3051 rfl dX5_stretched_129 ?_
      refine e_iload X hl 4 rfl dX5_stretched_132 ?_
      refine r_iald X hM 17 rfl (Nat.le_of_ble_eq_true rfl) hE dX5_stretched_134 (fun v10 hE => ?_)
      refine e_iconst X dX5_stretched_135 ?_
      obtain ⟨M11, h, hE⟩ := ob_some hE
      refine r_callV0 X hM 40 rfl ck_X5 (rest := []) (met_X5_goes l G ad hp0 M v10 1 h) (cwV 2 X.ht (lw_V q3343 q3345 qs102 q170 q3346) rfl rfl rfl hd_X5_goes (cxR (by decide) (by decide))) rfl hl.1 rfl (Nat.le_of_ble_eq_true rfl) dX5_stretched_136 ⟨Nat.le_refl _, Nat.le_refl _⟩ (fun H locs hM => ?_)
      refine e_aload_n X hl 0 rfl dX5_stretched_139 rfl ?_
      refine e_aload_n X hl 0 rfl dX5_stretched_140 rfl ?_
      refine r_getR X hM ck_X5 40 17 rfl rfl (by decide) q3051 rfl dX5_stretched_141 ?_
      refine e_iload X hl 4 rfl dX5_stretched_144 ?_
      refine r_iald X hM 17 rfl (Nat.le_of_ble_eq_true rfl) hE dX5_stretched_146 (fun v12 hE => ?_)
      refine e_iconst X dX5_stretched_147 ?_
      obtain ⟨v13, h, hE⟩ := ob_some hE
      refine r_callV1 X hM 40 rfl ck_X5 (rest := []) (met_X5_leads l G ad hp0 M11 v12 1 h) (cwV 2 X.ht (lw_V q3331 q3333 qs99 q170 q3334) rfl rfl rfl hd_X5_leads (cxR (by decide) (by decide))) rfl hl.1 rfl (Nat.le_of_ble_eq_true rfl) dX5_stretched_148 ⟨Nat.le_refl _, Nat.le_refl _⟩ (fun H locs hM => ?_)
      refine e_istore X hl [(4, vI v13), (0, .ref (ad 40)), (1, vI b1), (2, vI b2), (3, vI b3)] dX5_stretched_151 (by decide) rfl (fun ls hl => ?_)
      refine e_goto X dX5_stretched_153 rfl ?_
      exact ih M11 v13 _ _ _ hE hM (lv_sub hl [1, 2, 3, 4, 0] rfl) hk
theorem wl_X5_stretched_21 {p : Program} {l : Launch} {e : Env} {s : State} {m : MethodId} {args : Array Value} {below : List Frame} {meth : Method} {c : Code} {G : GG} {ad : Nat → Nat} {hp0 : HP} (X : CX p s m args meth c cX5_stretched 5 RX5 (some .boolean) G) {N : Nat} {b1 : Int} {b2 : Int}  {k : RM → Int → Option (Int × RM)} {out : (Int × RM)} : ∀ (n : Nat) (M : RM) (x3 : Int) (H : Heap) (locs : List Loc) (ls : Array Slot) (hE : f_X5_stretched_L21 N b1 b2 k n M x3 = some out) (hM : RW G dX5 ad hp0 M H locs) (hl : lv_has ls 5 [(0, .ref (ad 40)), (1, vI b1), (2, vI b2), (3, vI x3)]) (hk : ∀ (M : RM) (x3 : Int) (H : Heap) (locs : List Loc) (ls : Array Slot), RW G dX5 ad hp0 M H locs → lv_has ls 5 [(0, .ref (ad 40)), (1, vI b1), (2, vI b2), (3, vI x3)] → k M x3 = some out → W p l e (rmD 5) s m args below meth c H locs 0 0 (QR below G dX5 ad hp0 args s (some (vI out.1)) out.2) (F0 m 167 ls [])), W p l e (rmD 5) s m args below meth c H locs 0 0 (QR below G dX5 ad hp0 args s (some (vI out.1)) out.2) (F0 m 21 ls []) := by
  intro n
  induction n with
  | zero =>
    intro M x3 H locs ls hE hM hl hk
    unfold f_X5_stretched_L21 at hE
    cases hE
  | succ n ih =>
    intro M x3 H locs ls hE hM hl hk
    unfold f_X5_stretched_L21 at hE
    refine e_iload_n X hl 3 rfl dX5_stretched_21 rfl ?_
    refine e_bipush X dX5_stretched_22 (by decide) ?_
    refine e_icmp_ge X (w32 x3) 99 rfl (by decide) hE dX5_stretched_24 rfl (fun hE => ?_) (fun hE => ?_)
    · exact hk M x3 _ _ _ hM (lv_sub hl [0, 1, 2, 3] rfl) hE
    · refine e_aload_n X hl 0 rfl dX5_stretched_27 rfl ?_
      refine r_getR X hM ck_X5 40 16 rfl rfl (by decide) q3050 rfl dX5_stretched_28 ?_
      refine e_iload_n X hl 2 rfl dX5_stretched_31 rfl ?_
      refine r_lald X hM 16 rfl (Nat.le_of_ble_eq_true rfl) hE dX5_stretched_32 (fun v5 hE => ?_)
      refine e_ldc2 X 9223372036854775807 q3330 (by decide) dX5_stretched_33 ?_
      refine e_lcmp_eq X (w64 v5) 9223372036854775807 rfl (by decide) hE dX5_stretched_36 dX5_stretched_37 rfl (fun hE => ?_) (fun hE => ?_)
      · exact hk M x3 _ _ _ hM (lv_sub hl [0, 1, 2, 3] rfl) hE
      · refine e_aload_n X hl 0 rfl dX5_stretched_40 rfl ?_
        refine r_getI X hM ck_X5 40 29 rfl rfl (by decide) q3063 rfl dX5_stretched_41 ?_
        obtain ⟨kj6, hkj6, hE⟩ := jn_ex hE
        have hjkj6 : ∀ (M7 : RM) (H : Heap) (locs : List Loc) (ls : Array Slot), RW G dX5 ad hp0 M7 H locs → lv_has ls 5 [(0, .ref (ad 40)), (1, vI b1), (2, vI b2), (3, vI x3)] → kj6 M7 = some out → W p l e (rmD 5) s m args below meth c H locs 0 0 (QR below G dX5 ad hp0 args s (some (vI out.1)) out.2) (F0 m 103 ls []) := by
          intro M7 H locs ls hM hl hE
          subst hkj6
          refine e_aload_n X hl 0 rfl dX5_stretched_103 rfl ?_
          refine r_getR X hM ck_X5 40 31 rfl rfl (by decide) q3065 rfl dX5_stretched_104 ?_
          refine e_aload_n X hl 0 rfl dX5_stretched_107 rfl ?_
          refine r_getI X hM ck_X5 40 29 rfl rfl (by decide) q3063 rfl dX5_stretched_108 ?_
          refine e_iconst X dX5_stretched_111 ?_
          refine e_isub X dX5_stretched_112 ?_
          refine e_dup2 X dX5_stretched_113 rfl rfl ?_
          refine r_iald X hM 31 rfl (Nat.le_of_ble_eq_true rfl) hE dX5_stretched_114 (fun v8 hE => ?_)
          refine e_iconst X dX5_stretched_115 ?_
          refine e_iadd X dX5_stretched_116 ?_
          refine r_iast X hM 31 rfl (Nat.le_of_ble_eq_true rfl) hE dX5_stretched_117 (fun M9 hE H locs hM => ?_)
          refine e_iload_n X hl 2 rfl dX5_stretched_118 rfl ?_
          refine e_istore X hl [(4, vI b2), (0, .ref (ad 40)), (1, vI b1), (2, vI b2), (3, vI x3)] dX5_stretched_119 (by decide) rfl (fun ls hl => ?_)
          refine wl_X5_stretched_121 X _ M9 b2 _ _ _ hE hM (lv_sub hl [1, 2, 3, 4, 0] rfl) (fun M14 v15 H locs ls hM hl hE => ?_)
          refine e_iinc X hl 3 hE (fun v16 => [(3, vI v16), (0, .ref (ad 40)), (1, vI b1), (2, vI b2), (4, vI v15)]) rfl dX5_stretched_156 (by decide) (fun _ => rfl) (fun v16 hE ls hl => ?_)
          refine e_aload_n X hl 1 rfl dX5_stretched_159 rfl ?_
          refine e_iload_n X hl 2 rfl dX5_stretched_160 rfl ?_
          obtain ⟨M17, h, hE⟩ := ob_some hE
          refine r_callV0 X hM 40 rfl ck_X5 (rest := []) (met_X5_reaches l G ad hp0 M14 b1 h) (cwV 1 X.ht (lw_V q3326 q3328 qs98 q170 q3329) rfl rfl rfl hd_X5_reaches (cxR (by decide) (by decide))) rfl hl.1 rfl (Nat.le_of_ble_eq_true rfl) dX5_stretched_161 ⟨Nat.le_refl _, Nat.le_refl _⟩ (fun H locs hM => ?_)
          refine e_goto X dX5_stretched_164 rfl ?_
          exact ih M17 v16 _ _ _ hE hM (lv_sub hl [1, 2, 3, 0] rfl) hk
        refine e_if_eq X (w32 (M 40 29)) rfl hE dX5_stretched_44 rfl (fun hE => ?_) (fun hE => ?_)
        · refine e_aload_n X hl 0 rfl dX5_stretched_68 rfl ?_
          refine r_getR X hM ck_X5 40 30 rfl rfl (by decide) q3064 rfl dX5_stretched_69 ?_
          refine e_aload_n X hl 0 rfl dX5_stretched_72 rfl ?_
          refine r_getI X hM ck_X5 40 29 rfl rfl (by decide) q3063 rfl dX5_stretched_73 ?_
          refine e_aload_n X hl 0 rfl dX5_stretched_76 rfl ?_
          refine r_getR X hM ck_X5 40 16 rfl rfl (by decide) q3050 rfl dX5_stretched_77 ?_
          refine e_iload_n X hl 2 rfl dX5_stretched_80 rfl ?_
          refine r_lald X hM 16 rfl (Nat.le_of_ble_eq_true rfl) hE dX5_stretched_81 (fun v18 hE => ?_)
          refine r_last X hM 30 rfl (Nat.le_of_ble_eq_true rfl) hE dX5_stretched_82 (fun M19 hE H locs hM => ?_)
          refine e_aload_n X hl 0 rfl dX5_stretched_83 rfl ?_
          refine r_getR X hM ck_X5 40 31 rfl rfl (by decide) q3065 rfl dX5_stretched_84 ?_
          refine e_aload_n X hl 0 rfl dX5_stretched_87 rfl ?_
          refine r_getI X hM ck_X5 40 29 rfl rfl (by decide) q3063 rfl dX5_stretched_88 ?_
          refine e_iconst X dX5_stretched_91 ?_
          refine r_iast X hM 31 rfl (Nat.le_of_ble_eq_true rfl) hE dX5_stretched_92 (fun M20 hE H locs hM => ?_)
          refine e_aload_n X hl 0 rfl dX5_stretched_93 rfl ?_
          refine e_dup X dX5_stretched_94 rfl ?_
          refine r_getI X hM ck_X5 40 29 rfl rfl (by decide) q3063 rfl dX5_stretched_95 ?_
          refine e_iconst X dX5_stretched_98 ?_
          refine e_iadd X dX5_stretched_99 ?_
          refine r_putI X hM ck_X5 40 29 rfl rfl (by decide) q3063 rfl rfl hE rfl dX5_stretched_100 (fun M21 hE H locs hM => ?_)
          exact hjkj6 M21 _ _ _ hM (lv_sub hl [0, 1, 2, 3] rfl) hE
        · refine e_aload_n X hl 0 rfl dX5_stretched_47 rfl ?_
          refine r_getR X hM ck_X5 40 30 rfl rfl (by decide) q3064 rfl dX5_stretched_48 ?_
          refine e_aload_n X hl 0 rfl dX5_stretched_51 rfl ?_
          refine r_getI X hM ck_X5 40 29 rfl rfl (by decide) q3063 rfl dX5_stretched_52 ?_
          refine e_iconst X dX5_stretched_55 ?_
          refine e_isub X dX5_stretched_56 ?_
          refine r_lald X hM 30 rfl (Nat.le_of_ble_eq_true rfl) hE dX5_stretched_57 (fun v22 hE => ?_)
          refine e_aload_n X hl 0 rfl dX5_stretched_58 rfl ?_
          refine r_getR X hM ck_X5 40 16 rfl rfl (by decide) q3050 rfl dX5_stretched_59 ?_
          refine e_iload_n X hl 2 rfl dX5_stretched_62 rfl ?_
          refine r_lald X hM 16 rfl (Nat.le_of_ble_eq_true rfl) hE dX5_stretched_63 (fun v23 hE => ?_)
          refine e_lcmp_eq X (w64 v22) (w64 v23) rfl rfl hE dX5_stretched_64 dX5_stretched_65 rfl (fun hE => ?_) (fun hE => ?_)
          · exact hjkj6 M _ _ _ hM (lv_sub hl [0, 1, 2, 3] rfl) hE
          · refine e_aload_n X hl 0 rfl dX5_stretched_68 rfl ?_
            refine r_getR X hM ck_X5 40 30 rfl rfl (by decide) q3064 rfl dX5_stretched_69 ?_
            refine e_aload_n X hl 0 rfl dX5_stretched_72 rfl ?_
            refine r_getI X hM ck_X5 40 29 rfl rfl (by decide) q3063 rfl dX5_stretched_73 ?_
            refine e_aload_n X hl 0 rfl dX5_stretched_76 rfl ?_
            refine r_getR X hM ck_X5 40 16 rfl rfl (by decide) q3050 rfl dX5_stretched_77 ?_
            refine e_iload_n X hl 2 rfl dX5_stretched_80 rfl ?_
            refine r_lald X hM 16 rfl (Nat.le_of_ble_eq_true rfl) hE dX5_stretched_81 (fun v24 hE => ?_)
            refine r_last X hM 30 rfl (Nat.le_of_ble_eq_true rfl) hE dX5_stretched_82 (fun M25 hE H locs hM => ?_)
            refine e_aload_n X hl 0 rfl dX5_stretched_83 rfl ?_
            refine r_getR X hM ck_X5 40 31 rfl rfl (by decide) q3065 rfl dX5_stretched_84 ?_
            refine e_aload_n X hl 0 rfl dX5_stretched_87 rfl ?_
            refine r_getI X hM ck_X5 40 29 rfl rfl (by decide) q3063 rfl dX5_stretched_88 ?_
            refine e_iconst X dX5_stretched_91 ?_
            refine r_iast X hM 31 rfl (Nat.le_of_ble_eq_true rfl) hE dX5_stretched_92 (fun M26 hE H locs hM => ?_)
            refine e_aload_n X hl 0 rfl dX5_stretched_93 rfl ?_
            refine e_dup X dX5_stretched_94 rfl ?_
            refine r_getI X hM ck_X5 40 29 rfl rfl (by decide) q3063 rfl dX5_stretched_95 ?_
            refine e_iconst X dX5_stretched_98 ?_
            refine e_iadd X dX5_stretched_99 ?_
            refine r_putI X hM ck_X5 40 29 rfl rfl (by decide) q3063 rfl rfl hE rfl dX5_stretched_100 (fun M27 hE H locs hM => ?_)
            exact hjkj6 M27 _ _ _ hM (lv_sub hl [0, 1, 2, 3] rfl) hE
theorem wb_X5_stretched {p : Program} {l : Launch} {e : Env} {s : State} {m : MethodId} {args : Array Value} {below : List Frame} {meth : Method} {c : Code} {G : GG} {ad : Nat → Nat} {hp0 : HP} (X : CX p s m args meth c cX5_stretched 5 RX5 (some .boolean) G) {N : Nat} {M : RM} {a1 : Int} {a2 : Int}   {out : (Int × RM)} (hE : f_X5_stretched N M a1 a2 = some out) {H : Heap} {locs : List Loc} {ls : Array Slot} (hM : RW G dX5 ad hp0 M H locs) (hl : lv_has ls 5 [(0, .ref (ad 40)), (1, vI a1), (2, vI a2)]) : W p l e (rmD 5) s m args below meth c H locs 0 0 (QR below G dX5 ad hp0 args s (some (vI out.1)) out.2) (F0 m 0 ls []) := by
  unfold f_X5_stretched at hE
  refine e_aload_n X hl 0 rfl dX5_stretched_0 rfl ?_
  refine e_iconst X dX5_stretched_1 ?_
  refine r_putI X hM ck_X5 40 29 rfl rfl (by decide) q3063 rfl rfl hE rfl dX5_stretched_2 (fun M1 hE H locs hM => ?_)
  refine e_aload_n X hl 0 rfl dX5_stretched_5 rfl ?_
  obtain ⟨v2, M3, h, hE⟩ := ob2_some hE
  refine r_callV1 X hM 40 rfl ck_X5 (rest := []) (met_X5_isCheap l G ad hp0 M1 h) (cwV 0 X.ht (lw_V q3314 q3316 qs95 q170 q3317) rfl rfl rfl hd_X5_isCheap (cxR (by decide) (by decide))) rfl hl.1 rfl (Nat.le_of_ble_eq_true rfl) dX5_stretched_6 ⟨Nat.le_refl _, Nat.le_refl _⟩ (fun H locs hM => ?_)
  refine e_if_ne X (w32 v2) rfl hE dX5_stretched_9 rfl (fun hE => ?_) (fun hE => ?_)
  · refine e_iconst X dX5_stretched_14 ?_
    refine e_istore_n X hl [(3, vI 0), (0, .ref (ad 40)), (1, vI a1), (2, vI a2)] dX5_stretched_15 rfl (by decide) rfl (fun ls hl => ?_)
    refine e_aload_n X hl 1 rfl dX5_stretched_16 rfl ?_
    refine e_iload_n X hl 2 rfl dX5_stretched_17 rfl ?_
    obtain ⟨M4, h, hE⟩ := ob_some hE
    refine r_callV0 X hM 40 rfl ck_X5 (rest := []) (met_X5_reaches l G ad hp0 M3 a1 h) (cwV 1 X.ht (lw_V q3326 q3328 qs98 q170 q3329) rfl rfl rfl hd_X5_reaches (cxR (by decide) (by decide))) rfl hl.1 rfl (Nat.le_of_ble_eq_true rfl) dX5_stretched_18 ⟨Nat.le_refl _, Nat.le_refl _⟩ (fun H locs hM => ?_)
    refine wl_X5_stretched_21 X _ M4 0 _ _ _ hE hM (lv_sub hl [1, 2, 3, 0] rfl) (fun M28 v29 H locs ls hM hl hE => ?_)
    refine e_iconst X dX5_stretched_167 ?_
    cases hE
    exact r_zret (x := 1) X hM rfl dX5_stretched_168
  · refine e_iconst X dX5_stretched_12 ?_
    cases hE
    exact r_zret (x := 0) X hM rfl dX5_stretched_13
theorem met_X5_stretched (l : Launch) (G : GG) (ad : Nat → Nat) (hp0 : HP) {N : Nat} (M : RM) (a1 : Int) (a2 : Int)  {out : (Int × RM)} (hE : f_X5_stretched N M a1 a2 = some out) : MR l yX5_stretched (ws_ yX5_stretched cX5_stretched 5 (some .boolean)) 5 G dX5 ad hp0 [.ref (ad 40), vI a1, vI a2] M (some (vI out.1)) out.2 :=
  MR.of (by decide) (Nat.le_of_ble_eq_true rfl) rfl (fun p e s m below meth c ls X hM hl => wb_X5_stretched X hE hM hl)
def f_X5_stretch (N : Nat) (M : RM) (a1 : Int) (a2 : Int) (a3 : Int) (a4 : Int) : Option (Int × RM) :=
  ob (f_X5_areTwo M a1 a2) fun v1 => if w32 v1 = 0 then (some ((-9223372036854775808), M)) else (ob (f_X5_in M (w32 a4) 0 1) fun v2 => if w32 v2 = 0 then (some ((-9223372036854775808), M)) else (ob2 (f_X5_stretched N M a1 a2) fun v3 M4 => if w32 v3 = 0 then (some ((-9223372036854775808), M4)) else (ob (f_X5_in M4 (w32 a3) 0 (w32 ((M4 40 29) - 1))) fun v5 => if ¬ w32 v5 = 0 then (if ¬ w32 a4 = 0 then (ob (gA 99 M4 31 a3) fun v6 => some (w32 v6, M4)) else (ob (gA 99 M4 30 a3) fun v7 => some (v7, M4))) else (some ((-9223372036854775808), M4)))))
theorem hd_X5_stretch : yX5_stretch.cls = RX5 ∧ yX5_stretch.cls ≠ "java/lang/invoke/MethodHandle" ∧ yX5_stretch.cls ≠ "java/lang/invoke/VarHandle" ∧ (parseMethodDescriptor yX5_stretch.desc).map (fun d => d.parameters.length) = some 4 := by decide +kernel
theorem wb_X5_stretch {p : Program} {l : Launch} {e : Env} {s : State} {m : MethodId} {args : Array Value} {below : List Frame} {meth : Method} {c : Code} {G : GG} {ad : Nat → Nat} {hp0 : HP} (X : CX p s m args meth c cX5_stretch 5 RX5 (some .long) G) {N : Nat} {M : RM} {a1 : Int} {a2 : Int} {a3 : Int} {a4 : Int}   {out : (Int × RM)} (hE : f_X5_stretch N M a1 a2 a3 a4 = some out) {H : Heap} {locs : List Loc} {ls : Array Slot} (hM : RW G dX5 ad hp0 M H locs) (hl : lv_has ls 5 [(0, .ref (ad 40)), (1, vI a1), (2, vI a2), (3, vI a3), (4, vI a4)]) : W p l e (rmD 6) s m args below meth c H locs 0 0 (QR below G dX5 ad hp0 args s (some (vL out.1)) out.2) (F0 m 0 ls []) := by
  unfold f_X5_stretch at hE
  refine e_aload_n X hl 0 rfl dX5_stretch_0 rfl ?_
  refine e_iload_n X hl 1 rfl dX5_stretch_1 rfl ?_
  refine e_iload_n X hl 2 rfl dX5_stretch_2 rfl ?_
  obtain ⟨v1, h, hE⟩ := ob_some hE
  refine r_callV1 X hM 40 rfl ck_X5 (rest := []) (met_X5_areTwo l G ad hp0 M a1 a2 h) (cwV 2 X.ht (lw_V q3197 q3199 qs76 q170 q3200) rfl rfl rfl hd_X5_areTwo (cxR (by decide) (by decide))) rfl hl.1 rfl (Nat.le_of_ble_eq_true rfl) dX5_stretch_3 ⟨Nat.le_refl _, Nat.le_refl _⟩ (fun H locs hM => ?_)
  refine e_if_eq X (w32 v1) rfl hE dX5_stretch_6 rfl (fun hE => ?_) (fun hE => ?_)
  · refine e_ldc2 X (-9223372036854775808) q3250 (by decide) dX5_stretch_45 ?_
    cases hE
    exact r_lret X hM dX5_stretch_48
  · refine e_iload X hl 4 rfl dX5_stretch_9 ?_
    refine e_i2l X dX5_stretch_11 ?_
    refine e_lconst X 0 dX5_stretch_12 (by decide) ?_
    refine e_lconst X 1 dX5_stretch_13 (by decide) ?_
    obtain ⟨v2, h, hE⟩ := ob_some hE
    refine r_callS1 X hM (rest := []) (met_X5_in l G ad hp0 M (w32 a4) 0 1 h) (va_cwS 3 X.ht (lw_S q3172 q3173 q170 q3174) rfl rfl rfl hd_X5_in (cxR (by decide) (by decide))) rfl hl.1 rfl (Nat.le_of_ble_eq_true rfl) dX5_stretch_14 ⟨Nat.le_refl _, Nat.le_refl _⟩ (fun H locs hM => ?_)
    refine e_if_eq X (w32 v2) rfl hE dX5_stretch_17 rfl (fun hE => ?_) (fun hE => ?_)
    · refine e_ldc2 X (-9223372036854775808) q3250 (by decide) dX5_stretch_45 ?_
      cases hE
      exact r_lret X hM dX5_stretch_48
    · refine e_aload_n X hl 0 rfl dX5_stretch_20 rfl ?_
      refine e_iload_n X hl 1 rfl dX5_stretch_21 rfl ?_
      refine e_iload_n X hl 2 rfl dX5_stretch_22 rfl ?_
      obtain ⟨v3, M4, h, hE⟩ := ob2_some hE
      refine r_callV1 X hM 40 rfl ck_X5 (rest := []) (met_X5_stretched l G ad hp0 M a1 a2 h) (cwV 2 X.ht (lw_V q3449 q3451 qs114 q170 q3452) rfl rfl rfl hd_X5_stretched (cxR (by decide) (by decide))) rfl hl.1 rfl (Nat.le_of_ble_eq_true rfl) dX5_stretch_23 ⟨Nat.le_refl _, Nat.le_refl _⟩ (fun H locs hM => ?_)
      refine e_if_eq X (w32 v3) rfl hE dX5_stretch_26 rfl (fun hE => ?_) (fun hE => ?_)
      · refine e_ldc2 X (-9223372036854775808) q3250 (by decide) dX5_stretch_45 ?_
        cases hE
        exact r_lret X hM dX5_stretch_48
      · refine e_iload_n X hl 3 rfl dX5_stretch_29 rfl ?_
        refine e_i2l X dX5_stretch_30 ?_
        refine e_lconst X 0 dX5_stretch_31 (by decide) ?_
        refine e_aload_n X hl 0 rfl dX5_stretch_32 rfl ?_
        refine r_getI X hM ck_X5 40 29 rfl rfl (by decide) q3063 rfl dX5_stretch_33 ?_
        refine e_iconst X dX5_stretch_36 ?_
        refine e_isub X dX5_stretch_37 ?_
        refine e_i2l X dX5_stretch_38 ?_
        obtain ⟨v5, h, hE⟩ := ob_some hE
        refine r_callS1 X hM (rest := []) (met_X5_in l G ad hp0 M4 (w32 a3) 0 (w32 ((M4 40 29) - 1)) h) (va_cwS 3 X.ht (lw_S q3172 q3173 q170 q3174) rfl rfl rfl hd_X5_in (cxR (by decide) (by decide))) rfl hl.1 rfl (Nat.le_of_ble_eq_true rfl) dX5_stretch_39 ⟨Nat.le_refl _, Nat.le_refl _⟩ (fun H locs hM => ?_)
        refine e_if_ne X (w32 v5) rfl hE dX5_stretch_42 rfl (fun hE => ?_) (fun hE => ?_)
        · refine e_iload X hl 4 rfl dX5_stretch_49 ?_
          refine e_if_ne X (w32 a4) rfl hE dX5_stretch_51 rfl (fun hE => ?_) (fun hE => ?_)
          · refine e_aload_n X hl 0 rfl dX5_stretch_63 rfl ?_
            refine r_getR X hM ck_X5 40 31 rfl rfl (by decide) q3065 rfl dX5_stretch_64 ?_
            refine e_iload_n X hl 3 rfl dX5_stretch_67 rfl ?_
            refine r_iald X hM 31 rfl (Nat.le_of_ble_eq_true rfl) hE dX5_stretch_68 (fun v6 hE => ?_)
            refine e_i2l X dX5_stretch_69 ?_
            cases hE
            exact r_lret X hM dX5_stretch_70
          · refine e_aload_n X hl 0 rfl dX5_stretch_54 rfl ?_
            refine r_getR X hM ck_X5 40 30 rfl rfl (by decide) q3064 rfl dX5_stretch_55 ?_
            refine e_iload_n X hl 3 rfl dX5_stretch_58 rfl ?_
            refine r_lald X hM 30 rfl (Nat.le_of_ble_eq_true rfl) hE dX5_stretch_59 (fun v7 hE => ?_)
            refine e_goto X dX5_stretch_60 rfl ?_
            cases hE
            exact r_lret X hM dX5_stretch_70
        · refine e_ldc2 X (-9223372036854775808) q3250 (by decide) dX5_stretch_45 ?_
          cases hE
          exact r_lret X hM dX5_stretch_48
theorem met_X5_stretch (l : Launch) (G : GG) (ad : Nat → Nat) (hp0 : HP) {N : Nat} (M : RM) (a1 : Int) (a2 : Int) (a3 : Int) (a4 : Int)  {out : (Int × RM)} (hE : f_X5_stretch N M a1 a2 a3 a4 = some out) : MR l yX5_stretch (ws_ yX5_stretch cX5_stretch 5 (some .long)) 6 G dX5 ad hp0 [.ref (ad 40), vI a1, vI a2, vI a3, vI a4] M (some (vL out.1)) out.2 :=
  MR.of (by decide) (Nat.le_of_ble_eq_true rfl) rfl (fun p e s m below meth c ls X hM hl => wb_X5_stretch X hE hM hl)
def f_X5_stretches (N : Nat) (M : RM) (a1 : Int) (a2 : Int) : Option (Int × RM) :=
  ob (f_X5_areTwo M a1 a2) fun v1 => if ¬ w32 v1 = 0 then (ob2 (f_X5_stretched N M a1 a2) fun v2 M3 => if w32 v2 = 0 then (some ((-3), M3)) else (some (M3 40 29, M3))) else (some ((-1), M))
theorem hd_X5_stretches : yX5_stretches.cls = RX5 ∧ yX5_stretches.cls ≠ "java/lang/invoke/MethodHandle" ∧ yX5_stretches.cls ≠ "java/lang/invoke/VarHandle" ∧ (parseMethodDescriptor yX5_stretches.desc).map (fun d => d.parameters.length) = some 2 := by decide +kernel
theorem wb_X5_stretches {p : Program} {l : Launch} {e : Env} {s : State} {m : MethodId} {args : Array Value} {below : List Frame} {meth : Method} {c : Code} {G : GG} {ad : Nat → Nat} {hp0 : HP} (X : CX p s m args meth c cX5_stretches 3 RX5 (some .int) G) {N : Nat} {M : RM} {a1 : Int} {a2 : Int}   {out : (Int × RM)} (hE : f_X5_stretches N M a1 a2 = some out) {H : Heap} {locs : List Loc} {ls : Array Slot} (hM : RW G dX5 ad hp0 M H locs) (hl : lv_has ls 3 [(0, .ref (ad 40)), (1, vI a1), (2, vI a2)]) : W p l e (rmD 6) s m args below meth c H locs 0 0 (QR below G dX5 ad hp0 args s (some (vI out.1)) out.2) (F0 m 0 ls []) := by
  unfold f_X5_stretches at hE
  refine e_aload_n X hl 0 rfl dX5_stretches_0 rfl ?_
  refine e_iload_n X hl 1 rfl dX5_stretches_1 rfl ?_
  refine e_iload_n X hl 2 rfl dX5_stretches_2 rfl ?_
  obtain ⟨v1, h, hE⟩ := ob_some hE
  refine r_callV1 X hM 40 rfl ck_X5 (rest := []) (met_X5_areTwo l G ad hp0 M a1 a2 h) (cwV 2 X.ht (lw_V q3197 q3199 qs76 q170 q3200) rfl rfl rfl hd_X5_areTwo (cxR (by decide) (by decide))) rfl hl.1 rfl (Nat.le_of_ble_eq_true rfl) dX5_stretches_3 ⟨Nat.le_refl _, Nat.le_refl _⟩ (fun H locs hM => ?_)
  refine e_if_ne X (w32 v1) rfl hE dX5_stretches_6 rfl (fun hE => ?_) (fun hE => ?_)
  · refine e_aload_n X hl 0 rfl dX5_stretches_11 rfl ?_
    refine e_iload_n X hl 1 rfl dX5_stretches_12 rfl ?_
    refine e_iload_n X hl 2 rfl dX5_stretches_13 rfl ?_
    obtain ⟨v2, M3, h, hE⟩ := ob2_some hE
    refine r_callV1 X hM 40 rfl ck_X5 (rest := []) (met_X5_stretched l G ad hp0 M a1 a2 h) (cwV 2 X.ht (lw_V q3449 q3451 qs114 q170 q3452) rfl rfl rfl hd_X5_stretched (cxR (by decide) (by decide))) rfl hl.1 rfl (Nat.le_of_ble_eq_true rfl) dX5_stretches_14 ⟨Nat.le_refl _, Nat.le_refl _⟩ (fun H locs hM => ?_)
    refine e_if_eq X (w32 v2) rfl hE dX5_stretches_17 rfl (fun hE => ?_) (fun hE => ?_)
    · refine e_bipush X dX5_stretches_27 (by decide) ?_
      cases hE
      exact r_zret (x := (-3)) X hM rfl dX5_stretches_29
    · refine e_aload_n X hl 0 rfl dX5_stretches_20 rfl ?_
      refine r_getI X hM ck_X5 40 29 rfl rfl (by decide) q3063 rfl dX5_stretches_21 ?_
      refine e_goto X dX5_stretches_24 rfl ?_
      cases hE
      exact r_zret X hM rfl dX5_stretches_29
  · refine e_iconst X dX5_stretches_9 ?_
    cases hE
    exact r_zret (x := (-1)) X hM rfl dX5_stretches_10
theorem met_X5_stretches (l : Launch) (G : GG) (ad : Nat → Nat) (hp0 : HP) {N : Nat} (M : RM) (a1 : Int) (a2 : Int)  {out : (Int × RM)} (hE : f_X5_stretches N M a1 a2 = some out) : MR l yX5_stretches (ws_ yX5_stretches cX5_stretches 3 (some .int)) 6 G dX5 ad hp0 [.ref (ad 40), vI a1, vI a2] M (some (vI out.1)) out.2 :=
  MR.of (by decide) (Nat.le_of_ble_eq_true rfl) rfl (fun p e s m below meth c ls X hM hl => wb_X5_stretches X hE hM hl)
def f_X5_dearest_L34 (N : Nat) (b4 : Int) (k : RM → Int → Int → Int → Option (Int × RM)) : Nat → RM → Int → Int → Int → Option (Int × RM)
  | 0, _, _, _, _ => none
  | n + 1, M, x1, x2, x5 =>
    if w32 b4 ≤ w32 x5 then (k M x1 x2 x5) else (ob (f_X5_closes N M x5) fun M6 => ob2 (f_X5_isTotal N M6) fun v7 M8 => jn (fun (v10 : Int) (v11 : Int) => ob (f_X5_thinksNoMore N M8) fun M12 => jn (x5 + 1) fun v13 => f_X5_dearest_L34 N b4 k n M12 v10 v11 v13) fun kj9 => if w32 v7 = 0 then (kj9 x1 x2) else (if w32 x1 < 0 then (jn (M8 40 24) fun v14 => kj9 x5 v14) else (if w64 (M8 40 24) ≤ w64 x2 then (kj9 x1 x2) else (jn (M8 40 24) fun v15 => kj9 x5 v15))))
def f_X5_dearest (N : Nat) (M : RM)  : Option (Int × RM) :=
  ob2 (f_X5_flows N M) fun v1 M2 => if ¬ w32 v1 = 0 then (ob2 (f_X5_thinks N M2) fun v3 M4 => if ¬ w32 v3 = 0 then (ob (f_X5_many M4) fun v5 => f_X5_dearest_L34 N v5 (fun (M16 : RM) (v17 : Int) (v18 : Int) (v19 : Int) => some (v17, M16)) N M4 (-5) 0 0) else (some ((-6), M4))) else (some ((-3), M2))
theorem hd_X5_dearest : yX5_dearest.cls = RX5 ∧ yX5_dearest.cls ≠ "java/lang/invoke/MethodHandle" ∧ yX5_dearest.cls ≠ "java/lang/invoke/VarHandle" ∧ (parseMethodDescriptor yX5_dearest.desc).map (fun d => d.parameters.length) = some 0 := by decide +kernel
theorem wl_X5_dearest_34 {p : Program} {l : Launch} {e : Env} {s : State} {m : MethodId} {args : Array Value} {below : List Frame} {meth : Method} {c : Code} {G : GG} {ad : Nat → Nat} {hp0 : HP} (X : CX p s m args meth c cX5_dearest 6 RX5 (some .int) G) {N : Nat} {b4 : Int}  {k : RM → Int → Int → Int → Option (Int × RM)} {out : (Int × RM)} : ∀ (n : Nat) (M : RM) (x1 : Int) (x2 : Int) (x5 : Int) (H : Heap) (locs : List Loc) (ls : Array Slot) (hE : f_X5_dearest_L34 N b4 k n M x1 x2 x5 = some out) (hM : RW G dX5 ad hp0 M H locs) (hl : lv_has ls 6 [(0, .ref (ad 40)), (1, vI x1), (2, vL x2), (4, vI b4), (5, vI x5)]) (hk : ∀ (M : RM) (x1 : Int) (x2 : Int) (x5 : Int) (H : Heap) (locs : List Loc) (ls : Array Slot), RW G dX5 ad hp0 M H locs → lv_has ls 6 [(0, .ref (ad 40)), (1, vI x1), (2, vL x2), (4, vI b4), (5, vI x5)] → k M x1 x2 x5 = some out → W p l e (rmD 8) s m args below meth c H locs 0 0 (QR below G dX5 ad hp0 args s (some (vI out.1)) out.2) (F0 m 85 ls [])), W p l e (rmD 8) s m args below meth c H locs 0 0 (QR below G dX5 ad hp0 args s (some (vI out.1)) out.2) (F0 m 34 ls []) := by
  intro n
  induction n with
  | zero =>
    intro M x1 x2 x5 H locs ls hE hM hl hk
    unfold f_X5_dearest_L34 at hE
    cases hE
  | succ n ih =>
    intro M x1 x2 x5 H locs ls hE hM hl hk
    unfold f_X5_dearest_L34 at hE
    refine e_iload X hl 4 rfl dX5_dearest_34 ?_
    refine e_iload X hl 3 rfl dX5_dearest_36 ?_
    refine e_icmp_ge X (w32 x5) (w32 b4) rfl rfl hE dX5_dearest_38 rfl (fun hE => ?_) (fun hE => ?_)
    · exact hk M x1 x2 x5 _ _ _ hM (lv_sub hl [0, 1, 2, 3, 4] rfl) hE
    · refine e_aload_n X hl 0 rfl dX5_dearest_41 rfl ?_
      refine e_iload X hl 4 rfl dX5_dearest_42 ?_
      obtain ⟨M6, h, hE⟩ := ob_some hE
      refine r_callV0 X hM 40 rfl ck_X5 (rest := []) (met_X5_closes l G ad hp0 M x5 h) (cwV 1 X.ht (lw_V q3234 q3236 qs82 q170 q3237) rfl rfl rfl hd_X5_closes (cxR (by decide) (by decide))) rfl hl.1 rfl (Nat.le_of_ble_eq_true rfl) dX5_dearest_44 ⟨Nat.le_refl _, Nat.le_refl _⟩ (fun H locs hM => ?_)
      refine e_aload_n X hl 0 rfl dX5_dearest_47 rfl ?_
      obtain ⟨v7, M8, h, hE⟩ := ob2_some hE
      refine r_callV1 X hM 40 rfl ck_X5 (rest := []) (met_X5_isTotal l G ad hp0 M6 h) (cwV 0 X.ht (lw_V q3382 q3384 qs109 q170 q3385) rfl rfl rfl hd_X5_isTotal (cxR (by decide) (by decide))) rfl hl.1 rfl (Nat.le_of_ble_eq_true rfl) dX5_dearest_48 ⟨Nat.le_refl _, Nat.le_refl _⟩ (fun H locs hM => ?_)
      obtain ⟨kj9, hkj9, hE⟩ := jn_ex hE
      have hjkj9 : ∀ (v10 : Int) (v11 : Int) (H : Heap) (locs : List Loc) (ls : Array Slot), RW G dX5 ad hp0 M8 H locs → lv_has ls 6 [(0, .ref (ad 40)), (1, vI v10), (2, vL v11), (4, vI b4), (5, vI x5)] → kj9 v10 v11 = some out → W p l e (rmD 8) s m args below meth c H locs 0 0 (QR below G dX5 ad hp0 args s (some (vI out.1)) out.2) (F0 m 75 ls []) := by
        intro v10 v11 H locs ls hM hl hE
        subst hkj9
        refine e_aload_n X hl 0 rfl dX5_dearest_75 rfl ?_
        obtain ⟨M12, h, hE⟩ := ob_some hE
        refine r_callV0 X hM 40 rfl ck_X5 (rest := []) (met_X5_thinksNoMore l G ad hp0 M8 h) (cwV 0 X.ht (lw_V q3421 q3423 qs112 q170 q3424) rfl rfl rfl hd_X5_thinksNoMore (cxR (by decide) (by decide))) rfl hl.1 rfl (Nat.le_of_ble_eq_true rfl) dX5_dearest_76 ⟨Nat.le_refl _, Nat.le_refl _⟩ (fun H locs hM => ?_)
        refine e_iinc X hl 4 hE (fun v13 => [(5, vI v13), (0, .ref (ad 40)), (1, vI v10), (2, vL v11), (4, vI b4)]) rfl dX5_dearest_79 (by decide) (fun _ => rfl) (fun v13 hE ls hl => ?_)
        refine e_goto X dX5_dearest_82 rfl ?_
        exact ih M12 v10 v11 v13 _ _ _ hE hM (lv_sub hl [1, 2, 3, 4, 0] rfl) hk
      refine e_if_eq X (w32 v7) rfl hE dX5_dearest_51 rfl (fun hE => ?_) (fun hE => ?_)
      · exact hjkj9 x1 x2 _ _ _ hM (lv_sub hl [0, 1, 2, 3, 4] rfl) hE
      · refine e_iload_n X hl 1 rfl dX5_dearest_54 rfl ?_
        refine e_if_lt X (w32 x1) rfl hE dX5_dearest_55 rfl (fun hE => ?_) (fun hE => ?_)
        · refine e_iload X hl 4 rfl dX5_dearest_67 ?_
          refine e_istore_n X hl [(1, vI x5), (0, .ref (ad 40)), (2, vL x2), (4, vI b4), (5, vI x5)] dX5_dearest_69 rfl (by decide) rfl (fun ls hl => ?_)
          refine e_aload_n X hl 1 rfl dX5_dearest_70 rfl ?_
          refine r_getJ X hM ck_X5 40 24 rfl rfl (by decide) q3058 rfl dX5_dearest_71 ?_
          refine e_topl hE (fun v14 hE => ?_)
          refine e_lstore_n X hl [(2, vL v14), (1, vI x5), (0, .ref (ad 40)), (4, vI b4), (5, vI x5)] dX5_dearest_74 rfl (by decide) rfl (fun ls hl => ?_)
          exact hjkj9 x5 v14 _ _ _ hM (lv_sub hl [2, 1, 0, 3, 4] rfl) hE
        · refine e_aload_n X hl 0 rfl dX5_dearest_58 rfl ?_
          refine r_getJ X hM ck_X5 40 24 rfl rfl (by decide) q3058 rfl dX5_dearest_59 ?_
          refine e_lload_n X hl 2 rfl dX5_dearest_62 rfl ?_
          refine e_lcmp_le X (w64 (M8 40 24)) (w64 x2) rfl rfl hE dX5_dearest_63 dX5_dearest_64 rfl (fun hE => ?_) (fun hE => ?_)
          · exact hjkj9 x1 x2 _ _ _ hM (lv_sub hl [0, 1, 2, 3, 4] rfl) hE
          · refine e_iload X hl 4 rfl dX5_dearest_67 ?_
            refine e_istore_n X hl [(1, vI x5), (0, .ref (ad 40)), (2, vL x2), (4, vI b4), (5, vI x5)] dX5_dearest_69 rfl (by decide) rfl (fun ls hl => ?_)
            refine e_aload_n X hl 1 rfl dX5_dearest_70 rfl ?_
            refine r_getJ X hM ck_X5 40 24 rfl rfl (by decide) q3058 rfl dX5_dearest_71 ?_
            refine e_topl hE (fun v15 hE => ?_)
            refine e_lstore_n X hl [(2, vL v15), (1, vI x5), (0, .ref (ad 40)), (4, vI b4), (5, vI x5)] dX5_dearest_74 rfl (by decide) rfl (fun ls hl => ?_)
            exact hjkj9 x5 v15 _ _ _ hM (lv_sub hl [2, 1, 0, 3, 4] rfl) hE
theorem wb_X5_dearest {p : Program} {l : Launch} {e : Env} {s : State} {m : MethodId} {args : Array Value} {below : List Frame} {meth : Method} {c : Code} {G : GG} {ad : Nat → Nat} {hp0 : HP} (X : CX p s m args meth c cX5_dearest 6 RX5 (some .int) G) {N : Nat} {M : RM}   {out : (Int × RM)} (hE : f_X5_dearest N M = some out) {H : Heap} {locs : List Loc} {ls : Array Slot} (hM : RW G dX5 ad hp0 M H locs) (hl : lv_has ls 6 [(0, .ref (ad 40))]) : W p l e (rmD 8) s m args below meth c H locs 0 0 (QR below G dX5 ad hp0 args s (some (vI out.1)) out.2) (F0 m 0 ls []) := by
  unfold f_X5_dearest at hE
  refine e_aload_n X hl 0 rfl dX5_dearest_0 rfl ?_
  obtain ⟨v1, M2, h, hE⟩ := ob2_some hE
  refine r_callV1 X hM 40 rfl ck_X5 (rest := []) (met_X5_flows l G ad hp0 M h) (cwV 0 X.ht (lw_V q3310 q3312 qs94 q170 q3313) rfl rfl rfl hd_X5_flows (cxR (by decide) (by decide))) rfl hl.1 rfl (Nat.le_of_ble_eq_true rfl) dX5_dearest_1 ⟨Nat.le_refl _, Nat.le_refl _⟩ (fun H locs hM => ?_)
  refine e_if_ne X (w32 v1) rfl hE dX5_dearest_4 rfl (fun hE => ?_) (fun hE => ?_)
  · refine e_aload_n X hl 0 rfl dX5_dearest_10 rfl ?_
    obtain ⟨v3, M4, h, hE⟩ := ob2_some hE
    refine r_callV1 X hM 40 rfl ck_X5 (rest := []) (met_X5_thinks l G ad hp0 M2 h) (cwV 0 X.ht (lw_V q3414 q3416 qs111 q170 q3417) rfl rfl rfl hd_X5_thinks (cxR (by decide) (by decide))) rfl hl.1 rfl (Nat.le_of_ble_eq_true rfl) dX5_dearest_11 ⟨Nat.le_refl _, Nat.le_refl _⟩ (fun H locs hM => ?_)
    refine e_if_ne X (w32 v3) rfl hE dX5_dearest_14 rfl (fun hE => ?_) (fun hE => ?_)
    · refine e_bipush X dX5_dearest_20 (by decide) ?_
      refine e_istore_n X hl [(1, vI (-5)), (0, .ref (ad 40))] dX5_dearest_22 rfl (by decide) rfl (fun ls hl => ?_)
      refine e_lconst X 0 dX5_dearest_23 (by decide) ?_
      refine e_lstore_n X hl [(2, vL 0), (1, vI (-5)), (0, .ref (ad 40))] dX5_dearest_24 rfl (by decide) rfl (fun ls hl => ?_)
      refine e_aload_n X hl 2 rfl dX5_dearest_25 rfl ?_
      obtain ⟨v5, h, hE⟩ := ob_some hE
      refine r_callV1 X hM 40 rfl ck_X5 (rest := []) (met_X5_many l G ad hp0 M4 h) (cwV 0 X.ht (lw_V q3206 q3208 qs77 q170 q3209) rfl rfl rfl hd_X5_many (cxR (by decide) (by decide))) rfl hl.1 rfl (Nat.le_of_ble_eq_true rfl) dX5_dearest_26 ⟨Nat.le_refl _, Nat.le_refl _⟩ (fun H locs hM => ?_)
      refine e_istore X hl [(4, vI v5), (2, vL 0), (1, vI (-5)), (0, .ref (ad 40))] dX5_dearest_29 (by decide) rfl (fun ls hl => ?_)
      refine e_iconst X dX5_dearest_31 ?_
      refine e_istore X hl [(5, vI 0), (4, vI v5), (2, vL 0), (1, vI (-5)), (0, .ref (ad 40))] dX5_dearest_32 (by decide) rfl (fun ls hl => ?_)
      refine wl_X5_dearest_34 X _ M4 (-5) 0 0 _ _ _ hE hM (lv_sub hl [4, 3, 2, 1, 0] rfl) (fun M16 v17 v18 v19 H locs ls hM hl hE => ?_)
      refine e_iload_n X hl 1 rfl dX5_dearest_85 rfl ?_
      cases hE
      exact r_zret X hM rfl dX5_dearest_86
    · refine e_bipush X dX5_dearest_17 (by decide) ?_
      cases hE
      exact r_zret (x := (-6)) X hM rfl dX5_dearest_19
  · refine e_bipush X dX5_dearest_7 (by decide) ?_
    cases hE
    exact r_zret (x := (-3)) X hM rfl dX5_dearest_9
theorem met_X5_dearest (l : Launch) (G : GG) (ad : Nat → Nat) (hp0 : HP) {N : Nat} (M : RM)   {out : (Int × RM)} (hE : f_X5_dearest N M = some out) : MR l yX5_dearest (ws_ yX5_dearest cX5_dearest 6 (some .int)) 8 G dX5 ad hp0 [.ref (ad 40)] M (some (vI out.1)) out.2 :=
  MR.of (by decide) (Nat.le_of_ble_eq_true rfl) rfl (fun p e s m below meth c ls X hM hl => wb_X5_dearest X hE hM hl)
def f_X5_isList (M0 : RM) (a1 : Int) : Option Int :=
  ob (f_X5_in M0 (w32 a1) 0 3) fun v1 => ob (tz v1) fun v2 => some v2
theorem hd_X5_isList : yX5_isList.cls ≠ "java/lang/invoke/MethodHandle" ∧ yX5_isList.cls ≠ "java/lang/invoke/VarHandle" ∧ (parseMethodDescriptor yX5_isList.desc).map (fun d => d.parameters.length) = some 1 := by decide +kernel
theorem wb_X5_isList {p : Program} {l : Launch} {e : Env} {s : State} {m : MethodId} {args : Array Value} {below : List Frame} {meth : Method} {c : Code} {G : GG} {ad : Nat → Nat} {hp0 : HP} {M0 : RM} (X : CX p s m args meth c cX5_isList 1 RX5 (some .boolean) G) {a1 : Int}   {out : Int} (hE : f_X5_isList M0 a1 = some out) {H : Heap} {locs : List Loc} {ls : Array Slot} (hM : RW G dX5 ad hp0 M0 H locs) (hl : lv_has ls 1 [(0, vI a1)]) : W p l e (rmD 1) s m args below meth c H locs 0 0 (QR below G dX5 ad hp0 args s (some (vI out)) M0) (F0 m 0 ls []) := by
  unfold f_X5_isList at hE
  refine e_iload_n X hl 0 rfl dX5_isList_0 rfl ?_
  refine e_i2l X dX5_isList_1 ?_
  refine e_lconst X 0 dX5_isList_2 (by decide) ?_
  refine e_ldc2 X 3 q3472 (by decide) dX5_isList_3 ?_
  obtain ⟨v1, h, hE⟩ := ob_some hE
  refine r_callS1 X hM (rest := []) (met_X5_in l G ad hp0 M0 (w32 a1) 0 3 h) (va_cwS 3 X.ht (lw_S q3172 q3173 q170 q3174) rfl rfl rfl hd_X5_in (cxR (by decide) (by decide))) rfl hl.1 rfl (Nat.le_of_ble_eq_true rfl) dX5_isList_6 ⟨Nat.le_refl _, Nat.le_refl _⟩ (fun H locs hM => ?_)
  obtain ⟨v2, hz, hE⟩ := ob_some hE
  have hn := nb_z hz
  have hz := (tz_some hz).2
  rw [hz] at hE
  cases hE
  exact r_zret X hM hn dX5_isList_9
theorem met_X5_isList (l : Launch) (G : GG) (ad : Nat → Nat) (hp0 : HP) (M0 : RM) (a1 : Int)  {out : Int} (hE : f_X5_isList M0 a1 = some out) : MR l yX5_isList (ws_ yX5_isList cX5_isList 1 (some .boolean)) 1 G dX5 ad hp0 [vI a1] M0 (some (vI out)) M0 :=
  MR.of (by decide) (Nat.le_of_ble_eq_true rfl) rfl (fun p e s m below meth c ls X hM hl => wb_X5_isList X hE hM hl)
def f_X5_whyNot (M0 : RM) (a1 : Int) (a2 : Int) : Option Int :=
  ob (f_X5_isList M0 a1) fun v1 => if ¬ w32 v1 = 0 then (ob (gA 4 M0 12 a1) fun v2 => if 0 ≤ w32 v2 then (if w32 a2 < 0 then (some (-13)) else (ob (gA 4 M0 12 a1) fun v3 => ob (f_X5_many M0) fun v4 => if w32 a2 ≤ w32 (v3 - v4) then (some 0) else (some (-13)))) else (some (-11))) else (some (-1))
theorem hd_X5_whyNot : yX5_whyNot.cls = RX5 ∧ yX5_whyNot.cls ≠ "java/lang/invoke/MethodHandle" ∧ yX5_whyNot.cls ≠ "java/lang/invoke/VarHandle" ∧ (parseMethodDescriptor yX5_whyNot.desc).map (fun d => d.parameters.length) = some 2 := by decide +kernel
theorem wb_X5_whyNot {p : Program} {l : Launch} {e : Env} {s : State} {m : MethodId} {args : Array Value} {below : List Frame} {meth : Method} {c : Code} {G : GG} {ad : Nat → Nat} {hp0 : HP} {M0 : RM} (X : CX p s m args meth c cX5_whyNot 3 RX5 (some .int) G) {a1 : Int} {a2 : Int}   {out : Int} (hE : f_X5_whyNot M0 a1 a2 = some out) {H : Heap} {locs : List Loc} {ls : Array Slot} (hM : RW G dX5 ad hp0 M0 H locs) (hl : lv_has ls 3 [(0, .ref (ad 40)), (1, vI a1), (2, vI a2)]) : W p l e (rmD 2) s m args below meth c H locs 0 0 (QR below G dX5 ad hp0 args s (some (vI out)) M0) (F0 m 0 ls []) := by
  unfold f_X5_whyNot at hE
  refine e_iload_n X hl 1 rfl dX5_whyNot_0 rfl ?_
  obtain ⟨v1, h, hE⟩ := ob_some hE
  refine r_callS1 X hM (rest := []) (met_X5_isList l G ad hp0 M0 a1 h) (va_cwS 1 X.ht (lw_S q3469 q3470 q170 q3471) rfl rfl rfl hd_X5_isList (cxR (by decide) (by decide))) rfl hl.1 rfl (Nat.le_of_ble_eq_true rfl) dX5_whyNot_1 ⟨Nat.le_refl _, Nat.le_refl _⟩ (fun H locs hM => ?_)
  refine e_if_ne X (w32 v1) rfl hE dX5_whyNot_4 rfl (fun hE => ?_) (fun hE => ?_)
  · refine e_aload_n X hl 0 rfl dX5_whyNot_9 rfl ?_
    refine r_getR X hM ck_X5 40 12 rfl rfl (by decide) q3046 rfl dX5_whyNot_10 ?_
    refine e_iload_n X hl 1 rfl dX5_whyNot_13 rfl ?_
    refine r_iald X hM 12 rfl (Nat.le_of_ble_eq_true rfl) hE dX5_whyNot_14 (fun v2 hE => ?_)
    refine e_if_ge X (w32 v2) rfl hE dX5_whyNot_15 rfl (fun hE => ?_) (fun hE => ?_)
    · refine e_iload_n X hl 2 rfl dX5_whyNot_21 rfl ?_
      refine e_if_lt X (w32 a2) rfl hE dX5_whyNot_22 rfl (fun hE => ?_) (fun hE => ?_)
      · refine e_bipush X dX5_whyNot_40 (by decide) ?_
        refine e_goto X dX5_whyNot_42 rfl ?_
        cases hE
        exact r_zret (x := (-13)) X hM rfl dX5_whyNot_46
      · refine e_iload_n X hl 2 rfl dX5_whyNot_25 rfl ?_
        refine e_aload_n X hl 0 rfl dX5_whyNot_26 rfl ?_
        refine r_getR X hM ck_X5 40 12 rfl rfl (by decide) q3046 rfl dX5_whyNot_27 ?_
        refine e_iload_n X hl 1 rfl dX5_whyNot_30 rfl ?_
        refine r_iald X hM 12 rfl (Nat.le_of_ble_eq_true rfl) hE dX5_whyNot_31 (fun v3 hE => ?_)
        refine e_aload_n X hl 0 rfl dX5_whyNot_32 rfl ?_
        obtain ⟨v4, h, hE⟩ := ob_some hE
        refine r_callV1 X hM 40 rfl ck_X5 (rest := [vI v3, vI a2]) (met_X5_many l G ad hp0 M0 h) (cwV 0 X.ht (lw_V q3206 q3208 qs77 q170 q3209) rfl rfl rfl hd_X5_many (cxR (by decide) (by decide))) rfl hl.1 rfl (Nat.le_of_ble_eq_true rfl) dX5_whyNot_33 ⟨Nat.le_refl _, Nat.le_refl _⟩ (fun H locs hM => ?_)
        refine e_isub X dX5_whyNot_36 ?_
        refine e_icmp_le X (w32 a2) (w32 (v3 - v4)) rfl rfl hE dX5_whyNot_37 rfl (fun hE => ?_) (fun hE => ?_)
        · refine e_iconst X dX5_whyNot_45 ?_
          cases hE
          exact r_zret (x := 0) X hM rfl dX5_whyNot_46
        · refine e_bipush X dX5_whyNot_40 (by decide) ?_
          refine e_goto X dX5_whyNot_42 rfl ?_
          cases hE
          exact r_zret (x := (-13)) X hM rfl dX5_whyNot_46
    · refine e_bipush X dX5_whyNot_18 (by decide) ?_
      cases hE
      exact r_zret (x := (-11)) X hM rfl dX5_whyNot_20
  · refine e_iconst X dX5_whyNot_7 ?_
    cases hE
    exact r_zret (x := (-1)) X hM rfl dX5_whyNot_8
theorem met_X5_whyNot (l : Launch) (G : GG) (ad : Nat → Nat) (hp0 : HP) (M0 : RM) (a1 : Int) (a2 : Int)  {out : Int} (hE : f_X5_whyNot M0 a1 a2 = some out) : MR l yX5_whyNot (ws_ yX5_whyNot cX5_whyNot 3 (some .int)) 2 G dX5 ad hp0 [.ref (ad 40), vI a1, vI a2] M0 (some (vI out)) M0 :=
  MR.of (by decide) (Nat.le_of_ble_eq_true rfl) rfl (fun p e s m below meth c ls X hM hl => wb_X5_whyNot X hE hM hl)
def f_X5_tells_L2 (N : Nat) (b1 : Int) (b2 : Int) (k : RM → Int → Option (Int × RM)) : Nat → RM → Int → Option (Int × RM)
  | 0, _, _ => none
  | n + 1, M, x3 =>
    ob (f_X5_many M) fun v1 => if w32 v1 ≤ w32 x3 then (k M x3) else (ob (gA 120 M 13 (((30 * b1) + b2) + x3)) fun v2 => ob (f_X5_low M x3) fun v3 => ob (f_X5_most M x3) fun v4 => ob (f_X5_in M v2 (w32 v3) (w32 v4)) fun v5 => if ¬ w32 v5 = 0 then (ob (sA 25 M 14 x3 v2) fun M6 => jn (x3 + 1) fun v7 => f_X5_tells_L2 N b1 b2 k n M6 v7) else (some (0, M)))
def f_X5_tells_L68 (N : Nat) (M : RM)  (k : Int → Option (Int × RM)) : Nat → Int → Option (Int × RM)
  | 0, _ => none
  | n + 1, x3 =>
    ob (f_X5_towns_2 M) fun v11 => if w32 v11 ≤ w32 x3 then (k x3) else (ob (gA 8 M 15 x3) fun v12 => if w32 v12 = 0 then (jn (x3 + 1) fun v13 => f_X5_tells_L68 N M  k n v13) else (some (0, M)))
def f_X5_tells (N : Nat) (M : RM) (a1 : Int) (a2 : Int) : Option (Int × RM) :=
  f_X5_tells_L2 N a1 a2 (fun (M8 : RM) (v9 : Int) => ob (f_X5_balance N M8) fun M10 => f_X5_tells_L68 N M10  (fun (v14 : Int) => some (1, M10)) N 0) N M 0
theorem hd_X5_tells : yX5_tells.cls = RX5 ∧ yX5_tells.cls ≠ "java/lang/invoke/MethodHandle" ∧ yX5_tells.cls ≠ "java/lang/invoke/VarHandle" ∧ (parseMethodDescriptor yX5_tells.desc).map (fun d => d.parameters.length) = some 2 := by decide +kernel
theorem wl_X5_tells_2 {p : Program} {l : Launch} {e : Env} {s : State} {m : MethodId} {args : Array Value} {below : List Frame} {meth : Method} {c : Code} {G : GG} {ad : Nat → Nat} {hp0 : HP} (X : CX p s m args meth c cX5_tells 6 RX5 (some .boolean) G) {N : Nat} {b1 : Int} {b2 : Int}  {k : RM → Int → Option (Int × RM)} {out : (Int × RM)} : ∀ (n : Nat) (M : RM) (x3 : Int) (H : Heap) (locs : List Loc) (ls : Array Slot) (hE : f_X5_tells_L2 N b1 b2 k n M x3 = some out) (hM : RW G dX5 ad hp0 M H locs) (hl : lv_has ls 6 [(0, .ref (ad 40)), (1, vI b1), (2, vI b2), (3, vI x3)]) (hk : ∀ (M : RM) (x3 : Int) (H : Heap) (locs : List Loc) (ls : Array Slot), RW G dX5 ad hp0 M H locs → lv_has ls 6 [(0, .ref (ad 40)), (1, vI b1), (2, vI b2), (3, vI x3)] → k M x3 = some out → W p l e (rmD 2) s m args below meth c H locs 0 0 (QR below G dX5 ad hp0 args s (some (vI out.1)) out.2) (F0 m 62 ls [])), W p l e (rmD 2) s m args below meth c H locs 0 0 (QR below G dX5 ad hp0 args s (some (vI out.1)) out.2) (F0 m 2 ls []) := by
  intro n
  induction n with
  | zero =>
    intro M x3 H locs ls hE hM hl hk
    unfold f_X5_tells_L2 at hE
    cases hE
  | succ n ih =>
    intro M x3 H locs ls hE hM hl hk
    unfold f_X5_tells_L2 at hE
    refine e_iload_n X hl 3 rfl dX5_tells_2 rfl ?_
    refine e_aload_n X hl 0 rfl dX5_tells_3 rfl ?_
    obtain ⟨v1, h, hE⟩ := ob_some hE
    refine r_callV1 X hM 40 rfl ck_X5 (rest := [vI x3]) (met_X5_many l G ad hp0 M h) (cwV 0 X.ht (lw_V q3206 q3208 qs77 q170 q3209) rfl rfl rfl hd_X5_many (cxR (by decide) (by decide))) rfl hl.1 rfl (Nat.le_of_ble_eq_true rfl) dX5_tells_4 ⟨Nat.le_refl _, Nat.le_refl _⟩ (fun H locs hM => ?_)
    refine e_icmp_ge X (w32 x3) (w32 v1) rfl rfl hE dX5_tells_7 rfl (fun hE => ?_) (fun hE => ?_)
    · exact hk M x3 _ _ _ hM (lv_sub hl [0, 1, 2, 3] rfl) hE
    · refine e_aload_n X hl 0 rfl dX5_tells_10 rfl ?_
      refine r_getR X hM ck_X5 40 13 rfl rfl (by decide) q3047 rfl dX5_tells_11 ?_
      refine e_bipush X dX5_tells_14 (by decide) ?_
      refine e_iload_n X hl 1 rfl dX5_tells_16 rfl ?_
      refine e_imul X dX5_tells_17 ?_
      refine e_iload_n X hl 2 rfl dX5_tells_18 rfl ?_
      refine e_iadd X dX5_tells_19 ?_
      refine e_iload_n X hl 3 rfl dX5_tells_20 rfl ?_
      refine e_iadd X dX5_tells_21 ?_
      refine r_lald X hM 13 rfl (Nat.le_of_ble_eq_true rfl) hE dX5_tells_22 (fun v2 hE => ?_)
      refine e_lstore X hl [(4, vL v2), (0, .ref (ad 40)), (1, vI b1), (2, vI b2), (3, vI x3)] dX5_tells_23 (by decide) rfl (fun ls hl => ?_)
      refine e_lload X hl 0 rfl dX5_tells_25 ?_
      refine e_aload_n X hl 1 rfl dX5_tells_27 rfl ?_
      refine e_iload_n X hl 4 rfl dX5_tells_28 rfl ?_
      obtain ⟨v3, h, hE⟩ := ob_some hE
      refine r_callV1 X hM 40 rfl ck_X5 (rest := [vL v2]) (met_X5_low l G ad hp0 M x3 h) (cwV 1 X.ht (lw_V q3238 q3240 qs83 q170 q3241) rfl rfl rfl hd_X5_low (cxR (by decide) (by decide))) rfl hl.1 rfl (Nat.le_of_ble_eq_true rfl) dX5_tells_29 ⟨Nat.le_refl _, Nat.le_refl _⟩ (fun H locs hM => ?_)
      refine e_i2l X dX5_tells_32 ?_
      refine e_aload_n X hl 1 rfl dX5_tells_33 rfl ?_
      refine e_iload_n X hl 4 rfl dX5_tells_34 rfl ?_
      obtain ⟨v4, h, hE⟩ := ob_some hE
      refine r_callV1 X hM 40 rfl ck_X5 (rest := [vL (w32 v3), vL v2]) (met_X5_most l G ad hp0 M x3 h) (cwV 1 X.ht (lw_V q3242 q3244 qs84 q170 q3245) rfl rfl rfl hd_X5_most (cxR (by decide) (by decide))) rfl hl.1 rfl (Nat.le_of_ble_eq_true rfl) dX5_tells_35 ⟨Nat.le_refl _, Nat.le_refl _⟩ (fun H locs hM => ?_)
      refine e_i2l X dX5_tells_38 ?_
      obtain ⟨v5, h, hE⟩ := ob_some hE
      refine r_callS1 X hM (rest := []) (met_X5_in l G ad hp0 M v2 (w32 v3) (w32 v4) h) (va_cwS 3 X.ht (lw_S q3172 q3173 q170 q3174) rfl rfl rfl hd_X5_in (cxR (by decide) (by decide))) rfl hl.1 rfl (Nat.le_of_ble_eq_true rfl) dX5_tells_39 ⟨Nat.le_refl _, Nat.le_refl _⟩ (fun H locs hM => ?_)
      refine e_if_ne X (w32 v5) rfl hE dX5_tells_42 rfl (fun hE => ?_) (fun hE => ?_)
      · refine e_aload_n X hl 1 rfl dX5_tells_47 rfl ?_
        refine r_getR X hM ck_X5 40 14 rfl rfl (by decide) q3048 rfl dX5_tells_48 ?_
        refine e_iload_n X hl 4 rfl dX5_tells_51 rfl ?_
        refine e_lload X hl 0 rfl dX5_tells_52 ?_
        refine e_l2i X dX5_tells_54 ?_
        refine r_iast X hM 14 rfl (Nat.le_of_ble_eq_true rfl) hE dX5_tells_55 (fun M6 hE H locs hM => ?_)
        refine e_iinc X hl 4 hE (fun v7 => [(3, vI v7), (4, vL v2), (0, .ref (ad 40)), (1, vI b1), (2, vI b2)]) rfl dX5_tells_56 (by decide) (fun _ => rfl) (fun v7 hE ls hl => ?_)
        refine e_goto X dX5_tells_59 rfl ?_
        exact ih M6 v7 _ _ _ hE hM (lv_sub hl [2, 3, 4, 0] rfl) hk
      · refine e_iconst X dX5_tells_45 ?_
        cases hE
        exact r_zret (x := 0) X hM rfl dX5_tells_46
theorem wl_X5_tells_68 {p : Program} {l : Launch} {e : Env} {s : State} {m : MethodId} {args : Array Value} {below : List Frame} {meth : Method} {c : Code} {G : GG} {ad : Nat → Nat} {hp0 : HP} (X : CX p s m args meth c cX5_tells 6 RX5 (some .boolean) G) {N : Nat} {M : RM}   {k : Int → Option (Int × RM)} {out : (Int × RM)} : ∀ (n : Nat) (x3 : Int) (H : Heap) (locs : List Loc) (ls : Array Slot) (hE : f_X5_tells_L68 N M  k n x3 = some out) (hM : RW G dX5 ad hp0 M H locs) (hl : lv_has ls 6 [(0, .ref (ad 40)), (3, vI x3)]) (hk : ∀ (x3 : Int) (H : Heap) (locs : List Loc) (ls : Array Slot), RW G dX5 ad hp0 M H locs → lv_has ls 6 [(0, .ref (ad 40)), (3, vI x3)] → k x3 = some out → W p l e (rmD 2) s m args below meth c H locs 0 0 (QR below G dX5 ad hp0 args s (some (vI out.1)) out.2) (F0 m 93 ls [])), W p l e (rmD 2) s m args below meth c H locs 0 0 (QR below G dX5 ad hp0 args s (some (vI out.1)) out.2) (F0 m 68 ls []) := by
  intro n
  induction n with
  | zero =>
    intro x3 H locs ls hE hM hl hk
    unfold f_X5_tells_L68 at hE
    cases hE
  | succ n ih =>
    intro x3 H locs ls hE hM hl hk
    unfold f_X5_tells_L68 at hE
    refine e_iload_n X hl 1 rfl dX5_tells_68 rfl ?_
    refine e_aload_n X hl 0 rfl dX5_tells_69 rfl ?_
    obtain ⟨v11, h, hE⟩ := ob_some hE
    refine r_callV1 X hM 40 rfl ck_X5 (rest := [vI x3]) (met_X5_towns_2 l G ad hp0 M h) (cwV 0 X.ht (lw_V q3187 q3189 qs75 q170 q3190) rfl rfl rfl hd_X5_towns_2 (cxR (by decide) (by decide))) rfl hl.1 rfl (Nat.le_of_ble_eq_true rfl) dX5_tells_70 ⟨Nat.le_refl _, Nat.le_refl _⟩ (fun H locs hM => ?_)
    refine e_icmp_ge X (w32 x3) (w32 v11) rfl rfl hE dX5_tells_73 rfl (fun hE => ?_) (fun hE => ?_)
    · exact hk x3 _ _ _ hM (lv_sub hl [0, 1] rfl) hE
    · refine e_aload_n X hl 0 rfl dX5_tells_76 rfl ?_
      refine r_getR X hM ck_X5 40 15 rfl rfl (by decide) q3049 rfl dX5_tells_77 ?_
      refine e_iload_n X hl 1 rfl dX5_tells_80 rfl ?_
      refine r_iald X hM 15 rfl (Nat.le_of_ble_eq_true rfl) hE dX5_tells_81 (fun v12 hE => ?_)
      refine e_if_eq X (w32 v12) rfl hE dX5_tells_82 rfl (fun hE => ?_) (fun hE => ?_)
      · refine e_iinc X hl 1 hE (fun v13 => [(3, vI v13), (0, .ref (ad 40))]) rfl dX5_tells_87 (by decide) (fun _ => rfl) (fun v13 hE ls hl => ?_)
        refine e_goto X dX5_tells_90 rfl ?_
        exact ih v13 _ _ _ hE hM (lv_sub hl [1, 0] rfl) hk
      · refine e_iconst X dX5_tells_85 ?_
        cases hE
        exact r_zret (x := 0) X hM rfl dX5_tells_86
theorem wb_X5_tells {p : Program} {l : Launch} {e : Env} {s : State} {m : MethodId} {args : Array Value} {below : List Frame} {meth : Method} {c : Code} {G : GG} {ad : Nat → Nat} {hp0 : HP} (X : CX p s m args meth c cX5_tells 6 RX5 (some .boolean) G) {N : Nat} {M : RM} {a1 : Int} {a2 : Int}   {out : (Int × RM)} (hE : f_X5_tells N M a1 a2 = some out) {H : Heap} {locs : List Loc} {ls : Array Slot} (hM : RW G dX5 ad hp0 M H locs) (hl : lv_has ls 6 [(0, .ref (ad 40)), (1, vI a1), (2, vI a2)]) : W p l e (rmD 2) s m args below meth c H locs 0 0 (QR below G dX5 ad hp0 args s (some (vI out.1)) out.2) (F0 m 0 ls []) := by
  unfold f_X5_tells at hE
  refine e_iconst X dX5_tells_0 ?_
  refine e_istore_n X hl [(3, vI 0), (0, .ref (ad 40)), (1, vI a1), (2, vI a2)] dX5_tells_1 rfl (by decide) rfl (fun ls hl => ?_)
  refine wl_X5_tells_2 X _ M 0 _ _ _ hE hM (lv_sub hl [1, 2, 3, 0] rfl) (fun M8 v9 H locs ls hM hl hE => ?_)
  refine e_aload_n X hl 0 rfl dX5_tells_62 rfl ?_
  obtain ⟨M10, h, hE⟩ := ob_some hE
  refine r_callV0 X hM 40 rfl ck_X5 (rest := []) (met_X5_balance l G ad hp0 M8 h) (cwV 0 X.ht (lw_V q3318 q3320 qs96 q170 q3321) rfl rfl rfl hd_X5_balance (cxR (by decide) (by decide))) rfl hl.1 rfl (Nat.le_of_ble_eq_true rfl) dX5_tells_63 ⟨Nat.le_refl _, Nat.le_refl _⟩ (fun H locs hM => ?_)
  refine e_iconst X dX5_tells_66 ?_
  refine e_istore_n X hl [(3, vI 0), (0, .ref (ad 40)), (1, vI a1), (2, vI a2)] dX5_tells_67 rfl (by decide) rfl (fun ls hl => ?_)
  refine wl_X5_tells_68 X _ 0 _ _ _ hE hM (lv_sub hl [1, 0] rfl) (fun v14 H locs ls hM hl hE => ?_)
  refine e_iconst X dX5_tells_93 ?_
  cases hE
  exact r_zret (x := 1) X hM rfl dX5_tells_94
theorem met_X5_tells (l : Launch) (G : GG) (ad : Nat → Nat) (hp0 : HP) {N : Nat} (M : RM) (a1 : Int) (a2 : Int)  {out : (Int × RM)} (hE : f_X5_tells N M a1 a2 = some out) : MR l yX5_tells (ws_ yX5_tells cX5_tells 6 (some .boolean)) 2 G dX5 ad hp0 [.ref (ad 40), vI a1, vI a2] M (some (vI out.1)) out.2 :=
  MR.of (by decide) (Nat.le_of_ble_eq_true rfl) rfl (fun p e s m below meth c ls X hM hl => wb_X5_tells X hE hM hl)
def f_X5_isIn_L2 (N : Nat) (M0 : RM) (b1 : Int) (b2 : Int) (k : Int → Option Int) : Nat → Int → Option Int
  | 0, _ => none
  | n + 1, x3 =>
    if w32 b2 ≤ w32 x3 then (k x3) else (ob (gA 8 M0 32 x3) fun v1 => if ¬ w32 v1 = w32 b1 then (jn (x3 + 1) fun v2 => f_X5_isIn_L2 N M0 b1 b2 k n v2) else (some 1))
def f_X5_isIn (N : Nat) (M0 : RM) (a1 : Int) (a2 : Int) : Option Int :=
  f_X5_isIn_L2 N M0 a1 a2 (fun (v3 : Int) => some 0) N 0
theorem hd_X5_isIn : yX5_isIn.cls = RX5 ∧ yX5_isIn.cls ≠ "java/lang/invoke/MethodHandle" ∧ yX5_isIn.cls ≠ "java/lang/invoke/VarHandle" ∧ (parseMethodDescriptor yX5_isIn.desc).map (fun d => d.parameters.length) = some 2 := by decide +kernel
theorem wl_X5_isIn_2 {p : Program} {l : Launch} {e : Env} {s : State} {m : MethodId} {args : Array Value} {below : List Frame} {meth : Method} {c : Code} {G : GG} {ad : Nat → Nat} {hp0 : HP} {M0 : RM} (X : CX p s m args meth c cX5_isIn 4 RX5 (some .boolean) G) {N : Nat} {b1 : Int} {b2 : Int}  {k : Int → Option Int} {out : Int} : ∀ (n : Nat) (x3 : Int) (H : Heap) (locs : List Loc) (ls : Array Slot) (hE : f_X5_isIn_L2 N M0 b1 b2 k n x3 = some out) (hM : RW G dX5 ad hp0 M0 H locs) (hl : lv_has ls 4 [(0, .ref (ad 40)), (1, vI b1), (2, vI b2), (3, vI x3)]) (hk : ∀ (x3 : Int) (H : Heap) (locs : List Loc) (ls : Array Slot), RW G dX5 ad hp0 M0 H locs → lv_has ls 4 [(0, .ref (ad 40)), (1, vI b1), (2, vI b2), (3, vI x3)] → k x3 = some out → W p l e (rmD 0) s m args below meth c H locs 0 0 (QR below G dX5 ad hp0 args s (some (vI out)) M0) (F0 m 25 ls [])), W p l e (rmD 0) s m args below meth c H locs 0 0 (QR below G dX5 ad hp0 args s (some (vI out)) M0) (F0 m 2 ls []) := by
  intro n
  induction n with
  | zero =>
    intro x3 H locs ls hE hM hl hk
    unfold f_X5_isIn_L2 at hE
    cases hE
  | succ n ih =>
    intro x3 H locs ls hE hM hl hk
    unfold f_X5_isIn_L2 at hE
    refine e_iload_n X hl 3 rfl dX5_isIn_2 rfl ?_
    refine e_iload_n X hl 2 rfl dX5_isIn_3 rfl ?_
    refine e_icmp_ge X (w32 x3) (w32 b2) rfl rfl hE dX5_isIn_4 rfl (fun hE => ?_) (fun hE => ?_)
    · exact hk x3 _ _ _ hM (lv_sub hl [0, 1, 2, 3] rfl) hE
    · refine e_aload_n X hl 0 rfl dX5_isIn_7 rfl ?_
      refine r_getR X hM ck_X5 40 32 rfl rfl (by decide) q3066 rfl dX5_isIn_8 ?_
      refine e_iload_n X hl 3 rfl dX5_isIn_11 rfl ?_
      refine r_iald X hM 32 rfl (Nat.le_of_ble_eq_true rfl) hE dX5_isIn_12 (fun v1 hE => ?_)
      refine e_iload_n X hl 1 rfl dX5_isIn_13 rfl ?_
      refine e_icmp_ne X (w32 v1) (w32 b1) rfl rfl hE dX5_isIn_14 rfl (fun hE => ?_) (fun hE => ?_)
      · refine e_iinc X hl 3 hE (fun v2 => [(3, vI v2), (0, .ref (ad 40)), (1, vI b1), (2, vI b2)]) rfl dX5_isIn_19 (by decide) (fun _ => rfl) (fun v2 hE ls hl => ?_)
        refine e_goto X dX5_isIn_22 rfl ?_
        exact ih v2 _ _ _ hE hM (lv_sub hl [1, 2, 3, 0] rfl) hk
      · refine e_iconst X dX5_isIn_17 ?_
        cases hE
        exact r_zret (x := 1) X hM rfl dX5_isIn_18
theorem wb_X5_isIn {p : Program} {l : Launch} {e : Env} {s : State} {m : MethodId} {args : Array Value} {below : List Frame} {meth : Method} {c : Code} {G : GG} {ad : Nat → Nat} {hp0 : HP} {M0 : RM} (X : CX p s m args meth c cX5_isIn 4 RX5 (some .boolean) G) {N : Nat} {a1 : Int} {a2 : Int}   {out : Int} (hE : f_X5_isIn N M0 a1 a2 = some out) {H : Heap} {locs : List Loc} {ls : Array Slot} (hM : RW G dX5 ad hp0 M0 H locs) (hl : lv_has ls 4 [(0, .ref (ad 40)), (1, vI a1), (2, vI a2)]) : W p l e (rmD 0) s m args below meth c H locs 0 0 (QR below G dX5 ad hp0 args s (some (vI out)) M0) (F0 m 0 ls []) := by
  unfold f_X5_isIn at hE
  refine e_iconst X dX5_isIn_0 ?_
  refine e_istore_n X hl [(3, vI 0), (0, .ref (ad 40)), (1, vI a1), (2, vI a2)] dX5_isIn_1 rfl (by decide) rfl (fun ls hl => ?_)
  refine wl_X5_isIn_2 X _ 0 _ _ _ hE hM (lv_sub hl [1, 2, 3, 0] rfl) (fun v3 H locs ls hM hl hE => ?_)
  refine e_iconst X dX5_isIn_25 ?_
  cases hE
  exact r_zret (x := 0) X hM rfl dX5_isIn_26
theorem met_X5_isIn (l : Launch) (G : GG) (ad : Nat → Nat) (hp0 : HP) {N : Nat} (M0 : RM) (a1 : Int) (a2 : Int)  {out : Int} (hE : f_X5_isIn N M0 a1 a2 = some out) : MR l yX5_isIn (ws_ yX5_isIn cX5_isIn 4 (some .boolean)) 0 G dX5 ad hp0 [.ref (ad 40), vI a1, vI a2] M0 (some (vI out)) M0 :=
  MR.of (by decide) (Nat.le_of_ble_eq_true rfl) rfl (fun p e s m below meth c ls X hM hl => wb_X5_isIn X hE hM hl)
def f_X5_rings_L76 (N : Nat) (rec : RM → Int → Int → Int → Option (Int × RM)) (b1 : Int) (b2 : Int) (b3 : Int) (k : RM → Int → Option (Int × RM)) : Nat → RM → Int → Option (Int × RM)
  | 0, _, _ => none
  | n + 1, M, x5 =>
    ob (f_X5_towns_2 M) fun v3 => if w32 v3 ≤ w32 x5 then (k M x5) else (ob (gA 8 M 32 (b1 - 1)) fun v4 => jn ((8 * v4) + x5) fun v5 => ob (f_X5_isIn N M x5 b1) fun v6 => if ¬ w32 v6 = 0 then (jn (x5 + 1) fun v7 => f_X5_rings_L76 N rec b1 b2 b3 k n M v7) else (ob (gA 64 M 34 v5) fun v8 => if 0 ≤ w32 v8 then (ob (sA 8 M 32 b1 x5) fun M9 => ob (gA 64 M9 33 v5) fun v10 => ob2 (rec M9 (b1 + 1) b2 (b3 + v10)) fun v11 M12 => if w32 v11 = 0 then (jn (x5 + 1) fun v13 => f_X5_rings_L76 N rec b1 b2 b3 k n M12 v13) else (some (1, M12))) else (jn (x5 + 1) fun v14 => f_X5_rings_L76 N rec b1 b2 b3 k n M v14)))
def fb_X5_rings (N : Nat) (rec : RM → Int → Int → Int → Option (Int × RM)) (M : RM) (a1 : Int) (a2 : Int) (a3 : Int) : Option (Int × RM) :=
  if ¬ w32 a1 = w32 a2 then (ob (gA 8 M 32 0) fun v1 => jn (v1 + 1) fun v2 => f_X5_rings_L76 N rec a1 a2 a3 (fun (M15 : RM) (v16 : Int) => some (0, M15)) N M v2) else (ob (gA 8 M 32 (a2 - 1)) fun v17 => ob (gA 8 M 32 0) fun v18 => jn ((8 * v17) + v18) fun v19 => ob (gA 64 M 34 v19) fun v20 => if w32 v20 < 0 then (some (0, M)) else (ob (gA 64 M 33 v19) fun v21 => if w64 (a3 + v21) < 0 then (ob (gA 64 M 33 v19) fun v22 => jn (up2 M 40 36 (a3 + v22)) fun M23 => some (1, M23)) else (some (0, M))))
def f_X5_rings (N : Nat) : Nat → RM → Int → Int → Int → Option (Int × RM)
  | 0, _, _, _, _ => none
  | n + 1, M, a1, a2, a3 => fb_X5_rings N (f_X5_rings N n) M a1 a2 a3
theorem hd_X5_rings : yX5_rings.cls = RX5 ∧ yX5_rings.cls ≠ "java/lang/invoke/MethodHandle" ∧ yX5_rings.cls ≠ "java/lang/invoke/VarHandle" ∧ (parseMethodDescriptor yX5_rings.desc).map (fun d => d.parameters.length) = some 3 := by decide +kernel
theorem wl_X5_rings_76 {p : Program} {l : Launch} {e : Env} {s : State} {m : MethodId} {args : Array Value} {below : List Frame} {meth : Method} {c : Code} {G : GG} {ad : Nat → Nat} {hp0 : HP} (X : CX p s m args meth c cX5_rings 7 RX5 (some .boolean) G) {dR : Nat} (hdR : 1 ≤ dR) {rec : RM → Int → Int → Int → Option (Int × RM)} (hrec : ∀ (M : RM) (a1 : Int) (a2 : Int) (a3 : Int) {out : (Int × RM)} (_ : rec M a1 a2 a3 = some out), MR l yX5_rings (ws_ yX5_rings cX5_rings 7 (some .boolean)) dR G dX5 ad hp0 [.ref (ad 40), vI a1, vI a2, vL a3] M (some (vI out.1)) out.2) {N : Nat} {b1 : Int} {b2 : Int} {b3 : Int}  {k : RM → Int → Option (Int × RM)} {out : (Int × RM)} : ∀ (n : Nat) (M : RM) (x5 : Int) (H : Heap) (locs : List Loc) (ls : Array Slot) (hE : f_X5_rings_L76 N rec b1 b2 b3 k n M x5 = some out) (hM : RW G dX5 ad hp0 M H locs) (hl : lv_has ls 7 [(0, .ref (ad 40)), (1, vI b1), (2, vI b2), (3, vL b3), (5, vI x5)]) (hk : ∀ (M : RM) (x5 : Int) (H : Heap) (locs : List Loc) (ls : Array Slot), RW G dX5 ad hp0 M H locs → lv_has ls 7 [(0, .ref (ad 40)), (1, vI b1), (2, vI b2), (3, vL b3), (5, vI x5)] → k M x5 = some out → W p l e (rmD (dR + 1)) s m args below meth c H locs 0 0 (QR below G dX5 ad hp0 args s (some (vI out.1)) out.2) (F0 m 160 ls [])), W p l e (rmD (dR + 1)) s m args below meth c H locs 0 0 (QR below G dX5 ad hp0 args s (some (vI out.1)) out.2) (F0 m 76 ls []) := by
  intro n
  induction n with
  | zero =>
    intro M x5 H locs ls hE hM hl hk
    unfold f_X5_rings_L76 at hE
    cases hE
  | succ n ih =>
    intro M x5 H locs ls hE hM hl hk
    unfold f_X5_rings_L76 at hE
    refine e_iload X hl 4 rfl dX5_rings_76 ?_
    refine e_aload_n X hl 0 rfl dX5_rings_78 rfl ?_
    obtain ⟨v3, h, hE⟩ := ob_some hE
    refine r_callV1 X hM 40 rfl ck_X5 (rest := [vI x5]) (met_X5_towns_2 l G ad hp0 M h) (cwV 0 X.ht (lw_V q3187 q3189 qs75 q170 q3190) rfl rfl rfl hd_X5_towns_2 (cxR (by omega) (by decide))) rfl hl.1 rfl (Nat.le_of_ble_eq_true rfl) dX5_rings_79 ⟨Nat.le_refl _, Nat.le_refl _⟩ (fun H locs hM => ?_)
    refine e_icmp_ge X (w32 x5) (w32 v3) rfl rfl hE dX5_rings_82 rfl (fun hE => ?_) (fun hE => ?_)
    · exact hk M x5 _ _ _ hM (lv_sub hl [0, 1, 2, 3, 4] rfl) hE
    · refine e_bipush X dX5_rings_85 (by decide) ?_
      refine e_aload_n X hl 0 rfl dX5_rings_87 rfl ?_
      refine r_getR X hM ck_X5 40 32 rfl rfl (by decide) q3066 rfl dX5_rings_88 ?_
      refine e_iload_n X hl 1 rfl dX5_rings_91 rfl ?_
      refine e_iconst X dX5_rings_92 ?_
      refine e_isub X dX5_rings_93 ?_
      refine r_iald X hM 32 rfl (Nat.le_of_ble_eq_true rfl) hE dX5_rings_94 (fun v4 hE => ?_)
      refine e_imul X dX5_rings_95 ?_
      refine e_iload X hl 4 rfl dX5_rings_96 ?_
      refine e_iadd X dX5_rings_98 ?_
      refine e_top hE (fun v5 hE => ?_)
      refine e_istore X hl [(6, vI v5), (0, .ref (ad 40)), (1, vI b1), (2, vI b2), (3, vL b3), (5, vI x5)] dX5_rings_99 (by decide) rfl (fun ls hl => ?_)
      refine e_aload_n X hl 1 rfl dX5_rings_101 rfl ?_
      refine e_iload X hl 5 rfl dX5_rings_102 ?_
      refine e_iload_n X hl 2 rfl dX5_rings_104 rfl ?_
      obtain ⟨v6, h, hE⟩ := ob_some hE
      refine r_callV1 X hM 40 rfl ck_X5 (rest := []) (met_X5_isIn l G ad hp0 M x5 b1 h) (cwV 2 X.ht (lw_V q3485 q3487 qs119 q170 q3488) rfl rfl rfl hd_X5_isIn (cxR (by omega) (by decide))) rfl hl.1 rfl (Nat.le_of_ble_eq_true rfl) dX5_rings_105 ⟨Nat.le_refl _, Nat.le_refl _⟩ (fun H locs hM => ?_)
      refine e_if_ne X (w32 v6) rfl hE dX5_rings_108 rfl (fun hE => ?_) (fun hE => ?_)
      · refine e_iinc X hl 5 hE (fun v7 => [(5, vI v7), (6, vI v5), (0, .ref (ad 40)), (1, vI b1), (2, vI b2), (3, vL b3)]) rfl dX5_rings_154 (by decide) (fun _ => rfl) (fun v7 hE ls hl => ?_)
        refine e_goto X dX5_rings_157 rfl ?_
        exact ih M v7 _ _ _ hE hM (lv_sub hl [2, 3, 4, 5, 0] rfl) hk
      · refine e_aload_n X hl 1 rfl dX5_rings_111 rfl ?_
        refine r_getR X hM ck_X5 40 34 rfl rfl (by decide) q3068 rfl dX5_rings_112 ?_
        refine e_iload X hl 0 rfl dX5_rings_115 ?_
        refine r_iald X hM 34 rfl (Nat.le_of_ble_eq_true rfl) hE dX5_rings_117 (fun v8 hE => ?_)
        refine e_if_ge X (w32 v8) rfl hE dX5_rings_118 rfl (fun hE => ?_) (fun hE => ?_)
        · refine e_aload_n X hl 1 rfl dX5_rings_124 rfl ?_
          refine r_getR X hM ck_X5 40 32 rfl rfl (by decide) q3066 rfl dX5_rings_125 ?_
          refine e_iload_n X hl 2 rfl dX5_rings_128 rfl ?_
          refine e_iload X hl 5 rfl dX5_rings_129 ?_
          refine r_iast X hM 32 rfl (Nat.le_of_ble_eq_true rfl) hE dX5_rings_131 (fun M9 hE H locs hM => ?_)
          refine e_aload_n X hl 1 rfl dX5_rings_132 rfl ?_
          refine e_iload_n X hl 2 rfl dX5_rings_133 rfl ?_
          refine e_iconst X dX5_rings_134 ?_
          refine e_iadd X dX5_rings_135 ?_
          refine e_iload_n X hl 3 rfl dX5_rings_136 rfl ?_
          refine e_lload_n X hl 4 rfl dX5_rings_137 rfl ?_
          refine e_aload_n X hl 1 rfl dX5_rings_138 rfl ?_
          refine r_getR X hM ck_X5 40 33 rfl rfl (by decide) q3067 rfl dX5_rings_139 ?_
          refine e_iload X hl 0 rfl dX5_rings_142 ?_
          refine r_lald X hM 33 rfl (Nat.le_of_ble_eq_true rfl) hE dX5_rings_144 (fun v10 hE => ?_)
          refine e_ladd X dX5_rings_145 ?_
          obtain ⟨v11, M12, h, hE⟩ := ob2_some hE
          refine r_callV1 X hM 40 rfl ck_X5 (rest := []) (hrec M9 (b1 + 1) b2 (b3 + v10) h) (cwV 3 X.ht (lw_V q3481 q3483 qs118 q170 q3484) rfl rfl rfl hd_X5_rings (cxR (by omega) (by decide))) rfl hl.1 rfl (Nat.le_of_ble_eq_true rfl) dX5_rings_146 ⟨Nat.le_refl _, Nat.le_refl _⟩ (fun H locs hM => ?_)
          refine e_if_eq X (w32 v11) rfl hE dX5_rings_149 rfl (fun hE => ?_) (fun hE => ?_)
          · refine e_iinc X hl 5 hE (fun v13 => [(5, vI v13), (6, vI v5), (0, .ref (ad 40)), (1, vI b1), (2, vI b2), (3, vL b3)]) rfl dX5_rings_154 (by decide) (fun _ => rfl) (fun v13 hE ls hl => ?_)
            refine e_goto X dX5_rings_157 rfl ?_
            exact ih M12 v13 _ _ _ hE hM (lv_sub hl [2, 3, 4, 5, 0] rfl) hk
          · refine e_iconst X dX5_rings_152 ?_
            cases hE
            exact r_zret (x := 1) X hM rfl dX5_rings_153
        · refine e_goto X dX5_rings_121 rfl ?_
          refine e_iinc X hl 5 hE (fun v14 => [(5, vI v14), (6, vI v5), (0, .ref (ad 40)), (1, vI b1), (2, vI b2), (3, vL b3)]) rfl dX5_rings_154 (by decide) (fun _ => rfl) (fun v14 hE ls hl => ?_)
          refine e_goto X dX5_rings_157 rfl ?_
          exact ih M v14 _ _ _ hE hM (lv_sub hl [2, 3, 4, 5, 0] rfl) hk
theorem wb_X5_rings {p : Program} {l : Launch} {e : Env} {s : State} {m : MethodId} {args : Array Value} {below : List Frame} {meth : Method} {c : Code} {G : GG} {ad : Nat → Nat} {hp0 : HP} (X : CX p s m args meth c cX5_rings 7 RX5 (some .boolean) G) {dR : Nat} (hdR : 1 ≤ dR) {rec : RM → Int → Int → Int → Option (Int × RM)} (hrec : ∀ (M : RM) (a1 : Int) (a2 : Int) (a3 : Int) {out : (Int × RM)} (_ : rec M a1 a2 a3 = some out), MR l yX5_rings (ws_ yX5_rings cX5_rings 7 (some .boolean)) dR G dX5 ad hp0 [.ref (ad 40), vI a1, vI a2, vL a3] M (some (vI out.1)) out.2) {N : Nat} {M : RM} {a1 : Int} {a2 : Int} {a3 : Int}   {out : (Int × RM)} (hE : fb_X5_rings N rec M a1 a2 a3 = some out) {H : Heap} {locs : List Loc} {ls : Array Slot} (hM : RW G dX5 ad hp0 M H locs) (hl : lv_has ls 7 [(0, .ref (ad 40)), (1, vI a1), (2, vI a2), (3, vL a3)]) : W p l e (rmD (dR + 1)) s m args below meth c H locs 0 0 (QR below G dX5 ad hp0 args s (some (vI out.1)) out.2) (F0 m 0 ls []) := by
  unfold fb_X5_rings at hE
  refine e_iload_n X hl 1 rfl dX5_rings_0 rfl ?_
  refine e_iload_n X hl 2 rfl dX5_rings_1 rfl ?_
  refine e_icmp_ne X (w32 a1) (w32 a2) rfl rfl hE dX5_rings_2 rfl (fun hE => ?_) (fun hE => ?_)
  · refine e_aload_n X hl 0 rfl dX5_rings_66 rfl ?_
    refine r_getR X hM ck_X5 40 32 rfl rfl (by decide) q3066 rfl dX5_rings_67 ?_
    refine e_iconst X dX5_rings_70 ?_
    refine r_iald X hM 32 rfl (Nat.le_of_ble_eq_true rfl) hE dX5_rings_71 (fun v1 hE => ?_)
    refine e_iconst X dX5_rings_72 ?_
    refine e_iadd X dX5_rings_73 ?_
    refine e_top hE (fun v2 hE => ?_)
    refine e_istore X hl [(5, vI v2), (0, .ref (ad 40)), (1, vI a1), (2, vI a2), (3, vL a3)] dX5_rings_74 (by decide) rfl (fun ls hl => ?_)
    refine wl_X5_rings_76 X hdR hrec _ M v2 _ _ _ hE hM (lv_sub hl [1, 2, 3, 4, 0] rfl) (fun M15 v16 H locs ls hM hl hE => ?_)
    refine e_iconst X dX5_rings_160 ?_
    cases hE
    exact r_zret (x := 0) X hM rfl dX5_rings_161
  · refine e_bipush X dX5_rings_5 (by decide) ?_
    refine e_aload_n X hl 0 rfl dX5_rings_7 rfl ?_
    refine r_getR X hM ck_X5 40 32 rfl rfl (by decide) q3066 rfl dX5_rings_8 ?_
    refine e_iload_n X hl 2 rfl dX5_rings_11 rfl ?_
    refine e_iconst X dX5_rings_12 ?_
    refine e_isub X dX5_rings_13 ?_
    refine r_iald X hM 32 rfl (Nat.le_of_ble_eq_true rfl) hE dX5_rings_14 (fun v17 hE => ?_)
    refine e_imul X dX5_rings_15 ?_
    refine e_aload_n X hl 0 rfl dX5_rings_16 rfl ?_
    refine r_getR X hM ck_X5 40 32 rfl rfl (by decide) q3066 rfl dX5_rings_17 ?_
    refine e_iconst X dX5_rings_20 ?_
    refine r_iald X hM 32 rfl (Nat.le_of_ble_eq_true rfl) hE dX5_rings_21 (fun v18 hE => ?_)
    refine e_iadd X dX5_rings_22 ?_
    refine e_top hE (fun v19 hE => ?_)
    refine e_istore X hl [(5, vI v19), (0, .ref (ad 40)), (1, vI a1), (2, vI a2), (3, vL a3)] dX5_rings_23 (by decide) rfl (fun ls hl => ?_)
    refine e_aload_n X hl 1 rfl dX5_rings_25 rfl ?_
    refine r_getR X hM ck_X5 40 34 rfl rfl (by decide) q3068 rfl dX5_rings_26 ?_
    refine e_iload X hl 0 rfl dX5_rings_29 ?_
    refine r_iald X hM 34 rfl (Nat.le_of_ble_eq_true rfl) hE dX5_rings_31 (fun v20 hE => ?_)
    refine e_if_lt X (w32 v20) rfl hE dX5_rings_32 rfl (fun hE => ?_) (fun hE => ?_)
    · refine e_iconst X dX5_rings_49 ?_
      cases hE
      exact r_zret (x := 0) X hM rfl dX5_rings_50
    · refine e_lload_n X hl 4 rfl dX5_rings_35 rfl ?_
      refine e_aload_n X hl 1 rfl dX5_rings_36 rfl ?_
      refine r_getR X hM ck_X5 40 33 rfl rfl (by decide) q3067 rfl dX5_rings_37 ?_
      refine e_iload X hl 0 rfl dX5_rings_40 ?_
      refine r_lald X hM 33 rfl (Nat.le_of_ble_eq_true rfl) hE dX5_rings_42 (fun v21 hE => ?_)
      refine e_ladd X dX5_rings_43 ?_
      refine e_lconst X 0 dX5_rings_44 (by decide) ?_
      refine e_lcmp_lt X (w64 (a3 + v21)) 0 rfl (by decide) hE dX5_rings_45 dX5_rings_46 rfl (fun hE => ?_) (fun hE => ?_)
      · refine e_aload_n X hl 1 rfl dX5_rings_51 rfl ?_
        refine e_lload_n X hl 4 rfl dX5_rings_52 rfl ?_
        refine e_aload_n X hl 1 rfl dX5_rings_53 rfl ?_
        refine r_getR X hM ck_X5 40 33 rfl rfl (by decide) q3067 rfl dX5_rings_54 ?_
        refine e_iload X hl 0 rfl dX5_rings_57 ?_
        refine r_lald X hM 33 rfl (Nat.le_of_ble_eq_true rfl) hE dX5_rings_59 (fun v22 hE => ?_)
        refine e_ladd X dX5_rings_60 ?_
        refine r_putJ X hM ck_X5 40 36 rfl rfl (by decide) q3070 rfl rfl hE rfl dX5_rings_61 (fun M23 hE H locs hM => ?_)
        refine e_iconst X dX5_rings_64 ?_
        cases hE
        exact r_zret (x := 1) X hM rfl dX5_rings_65
      · refine e_iconst X dX5_rings_49 ?_
        cases hE
        exact r_zret (x := 0) X hM rfl dX5_rings_50
theorem met_X5_rings (l : Launch) (G : GG) (ad : Nat → Nat) (hp0 : HP) {N : Nat} : ∀ (n : Nat) (M : RM) (a1 : Int) (a2 : Int) (a3 : Int) {out : (Int × RM)} (_ : f_X5_rings N n M a1 a2 a3 = some out), MR l yX5_rings (ws_ yX5_rings cX5_rings 7 (some .boolean)) (1 + n) G dX5 ad hp0 [.ref (ad 40), vI a1, vI a2, vL a3] M (some (vI out.1)) out.2 := by
  intro n
  induction n with
  | zero => intro M a1 a2 a3 out hE; unfold f_X5_rings at hE; cases hE
  | succ n ih =>
    intro M a1 a2 a3 out hE
    unfold f_X5_rings at hE
    exact MR.of (by decide) (Nat.le_of_ble_eq_true rfl) rfl (fun p e s m below meth c ls X hM hl => wb_X5_rings X (by omega) (fun M a1 a2 a3 out h => ih M a1 a2 a3 h) hE hM hl)
def f_X5_isRung_L12 (N : Nat) (b1 : Int) (k : RM → Int → Option (Int × RM)) : Nat → RM → Int → Option (Int × RM)
  | 0, _, _ => none
  | n + 1, M, x2 =>
    ob (f_X5_towns_2 M) fun v2 => if w32 v2 ≤ w32 x2 then (k M x2) else (jn (fun (v4 : Int) => ob (sA 64 M 34 ((8 * b1) + x2) v4) fun M5 => ob (gA 64 M5 34 ((8 * b1) + x2)) fun v6 => jn (fun (v8 : Int) => ob (sA 64 M5 33 ((8 * b1) + x2) v8) fun M9 => jn (x2 + 1) fun v10 => f_X5_isRung_L12 N b1 k n M9 v10) fun kj7 => if 0 ≤ w32 v6 then (ob (gA 64 M5 34 ((8 * b1) + x2)) fun v11 => ob (f_X5_costOf M5 v11) fun v12 => kj7 v12) else (kj7 0)) fun kj3 => if ¬ w32 b1 = w32 x2 then (ob (f_X5_cheapest N M b1 x2) fun v13 => kj3 v13) else (kj3 (-1)))
def f_X5_isRung_L2 (N : Nat)  (k : RM → Int → Option (Int × RM)) : Nat → RM → Int → Option (Int × RM)
  | 0, _, _ => none
  | n + 1, M, x1 =>
    ob (f_X5_towns_2 M) fun v1 => if w32 v1 ≤ w32 x1 then (k M x1) else (f_X5_isRung_L12 N x1 (fun (M14 : RM) (v15 : Int) => jn (x1 + 1) fun v16 => f_X5_isRung_L2 N  k n M14 v16) N M 0)
def f_X5_isRung_L120 (N : Nat)  (k : RM → Int → Option (Int × RM)) : Nat → RM → Int → Option (Int × RM)
  | 0, _, _ => none
  | n + 1, M, x1 =>
    ob (f_X5_towns_2 M) fun v21 => if w32 v21 ≤ w32 x1 then (k M x1) else (ob (sA 8 M 32 0 x1) fun M22 => ob2 (f_X5_rings N 9 M22 1 (M22 40 35) 0) fun v23 M24 => if w32 v23 = 0 then (jn (x1 + 1) fun v25 => f_X5_isRung_L120 N  k n M24 v25) else (some (1, M24)))
def f_X5_isRung_L107 (N : Nat)  (k : RM → Option (Int × RM)) : Nat → RM → Option (Int × RM)
  | 0, _ => none
  | n + 1, M =>
    ob (f_X5_towns_2 M) fun v20 => if w32 v20 < w32 (M 40 35) then (k M) else (f_X5_isRung_L120 N  (fun (M26 : RM) (v27 : Int) => jn (up2 M26 40 35 ((M26 40 35) + 1)) fun M28 => f_X5_isRung_L107 N  k n M28) N M 0)
def f_X5_isRung (N : Nat) (M : RM)  : Option (Int × RM) :=
  f_X5_isRung_L2 N  (fun (M17 : RM) (v18 : Int) => jn (up2 M17 40 35 2) fun M19 => f_X5_isRung_L107 N  (fun (M29 : RM) => jn (up2 M29 40 35 0) fun M30 => some (0, M30)) N M19) N M 0
theorem hd_X5_isRung : yX5_isRung.cls = RX5 ∧ yX5_isRung.cls ≠ "java/lang/invoke/MethodHandle" ∧ yX5_isRung.cls ≠ "java/lang/invoke/VarHandle" ∧ (parseMethodDescriptor yX5_isRung.desc).map (fun d => d.parameters.length) = some 0 := by decide +kernel
theorem wl_X5_isRung_12 {p : Program} {l : Launch} {e : Env} {s : State} {m : MethodId} {args : Array Value} {below : List Frame} {meth : Method} {c : Code} {G : GG} {ad : Nat → Nat} {hp0 : HP} (X : CX p s m args meth c cX5_isRung 3 RX5 (some .boolean) G) {N : Nat} {b1 : Int}  {k : RM → Int → Option (Int × RM)} {out : (Int × RM)} : ∀ (n : Nat) (M : RM) (x2 : Int) (H : Heap) (locs : List Loc) (ls : Array Slot) (hE : f_X5_isRung_L12 N b1 k n M x2 = some out) (hM : RW G dX5 ad hp0 M H locs) (hl : lv_has ls 3 [(0, .ref (ad 40)), (1, vI b1), (2, vI x2)]) (hk : ∀ (M : RM) (x2 : Int) (H : Heap) (locs : List Loc) (ls : Array Slot), RW G dX5 ad hp0 M H locs → lv_has ls 3 [(0, .ref (ad 40)), (1, vI b1), (2, vI x2)] → k M x2 = some out → W p l e (rmD 11) s m args below meth c H locs 0 0 (QR below G dX5 ad hp0 args s (some (vI out.1)) out.2) (F0 m 96 ls [])), W p l e (rmD 11) s m args below meth c H locs 0 0 (QR below G dX5 ad hp0 args s (some (vI out.1)) out.2) (F0 m 12 ls []) := by
  intro n
  induction n with
  | zero =>
    intro M x2 H locs ls hE hM hl hk
    unfold f_X5_isRung_L12 at hE
    cases hE
  | succ n ih =>
    intro M x2 H locs ls hE hM hl hk
    unfold f_X5_isRung_L12 at hE
    refine e_iload_n X hl 2 rfl dX5_isRung_12 rfl ?_
    refine e_aload_n X hl 0 rfl dX5_isRung_13 rfl ?_
    obtain ⟨v2, h, hE⟩ := ob_some hE
    refine r_callV1 X hM 40 rfl ck_X5 (rest := [vI x2]) (met_X5_towns_2 l G ad hp0 M h) (cwV 0 X.ht (lw_V q3187 q3189 qs75 q170 q3190) rfl rfl rfl hd_X5_towns_2 (cxR (by decide) (by decide))) rfl hl.1 rfl (Nat.le_of_ble_eq_true rfl) dX5_isRung_14 ⟨Nat.le_refl _, Nat.le_refl _⟩ (fun H locs hM => ?_)
    refine e_icmp_ge X (w32 x2) (w32 v2) rfl rfl hE dX5_isRung_17 rfl (fun hE => ?_) (fun hE => ?_)
    · exact hk M x2 _ _ _ hM (lv_sub hl [0, 1, 2] rfl) hE
    · refine e_aload_n X hl 0 rfl dX5_isRung_20 rfl ?_
      refine r_getR X hM ck_X5 40 34 rfl rfl (by decide) q3068 rfl dX5_isRung_21 ?_
      refine e_bipush X dX5_isRung_24 (by decide) ?_
      refine e_iload_n X hl 1 rfl dX5_isRung_26 rfl ?_
      refine e_imul X dX5_isRung_27 ?_
      refine e_iload_n X hl 2 rfl dX5_isRung_28 rfl ?_
      refine e_iadd X dX5_isRung_29 ?_
      refine e_iload_n X hl 1 rfl dX5_isRung_30 rfl ?_
      refine e_iload_n X hl 2 rfl dX5_isRung_31 rfl ?_
      obtain ⟨kj3, hkj3, hE⟩ := jn_ex hE
      have hjkj3 : ∀ (v4 : Int) (H : Heap) (locs : List Loc) (ls : Array Slot), RW G dX5 ad hp0 M H locs → lv_has ls 3 [(0, .ref (ad 40)), (1, vI b1), (2, vI x2)] → kj3 v4 = some out → W p l e (rmD 11) s m args below meth c H locs 0 0 (QR below G dX5 ad hp0 args s (some (vI out.1)) out.2) (F0 m 45 ls [vI v4, vI ((8 * b1) + x2), .ref (ad 34)]) := by
        intro v4 H locs ls hM hl hE
        subst hkj3
        refine r_iast X hM 34 rfl (Nat.le_of_ble_eq_true rfl) hE dX5_isRung_45 (fun M5 hE H locs hM => ?_)
        refine e_aload_n X hl 0 rfl dX5_isRung_46 rfl ?_
        refine r_getR X hM ck_X5 40 33 rfl rfl (by decide) q3067 rfl dX5_isRung_47 ?_
        refine e_bipush X dX5_isRung_50 (by decide) ?_
        refine e_iload_n X hl 1 rfl dX5_isRung_52 rfl ?_
        refine e_imul X dX5_isRung_53 ?_
        refine e_iload_n X hl 2 rfl dX5_isRung_54 rfl ?_
        refine e_iadd X dX5_isRung_55 ?_
        refine e_aload_n X hl 0 rfl dX5_isRung_56 rfl ?_
        refine r_getR X hM ck_X5 40 34 rfl rfl (by decide) q3068 rfl dX5_isRung_57 ?_
        refine e_bipush X dX5_isRung_60 (by decide) ?_
        refine e_iload_n X hl 1 rfl dX5_isRung_62 rfl ?_
        refine e_imul X dX5_isRung_63 ?_
        refine e_iload_n X hl 2 rfl dX5_isRung_64 rfl ?_
        refine e_iadd X dX5_isRung_65 ?_
        refine r_iald X hM 34 rfl (Nat.le_of_ble_eq_true rfl) hE dX5_isRung_66 (fun v6 hE => ?_)
        obtain ⟨kj7, hkj7, hE⟩ := jn_ex hE
        have hjkj7 : ∀ (v8 : Int) (H : Heap) (locs : List Loc) (ls : Array Slot), RW G dX5 ad hp0 M5 H locs → lv_has ls 3 [(0, .ref (ad 40)), (1, vI b1), (2, vI x2)] → kj7 v8 = some out → W p l e (rmD 11) s m args below meth c H locs 0 0 (QR below G dX5 ad hp0 args s (some (vI out.1)) out.2) (F0 m 89 ls [vL v8, vI ((8 * b1) + x2), .ref (ad 33)]) := by
          intro v8 H locs ls hM hl hE
          subst hkj7
          refine r_last X hM 33 rfl (Nat.le_of_ble_eq_true rfl) hE dX5_isRung_89 (fun M9 hE H locs hM => ?_)
          refine e_iinc X hl 2 hE (fun v10 => [(2, vI v10), (0, .ref (ad 40)), (1, vI b1)]) rfl dX5_isRung_90 (by decide) (fun _ => rfl) (fun v10 hE ls hl => ?_)
          refine e_goto X dX5_isRung_93 rfl ?_
          exact ih M9 v10 _ _ _ hE hM (lv_sub hl [1, 2, 0] rfl) hk
        refine e_if_ge X (w32 v6) rfl hE dX5_isRung_67 rfl (fun hE => ?_) (fun hE => ?_)
        · refine e_aload_n X hl 0 rfl dX5_isRung_74 rfl ?_
          refine e_aload_n X hl 0 rfl dX5_isRung_75 rfl ?_
          refine r_getR X hM ck_X5 40 34 rfl rfl (by decide) q3068 rfl dX5_isRung_76 ?_
          refine e_bipush X dX5_isRung_79 (by decide) ?_
          refine e_iload_n X hl 1 rfl dX5_isRung_81 rfl ?_
          refine e_imul X dX5_isRung_82 ?_
          refine e_iload_n X hl 2 rfl dX5_isRung_83 rfl ?_
          refine e_iadd X dX5_isRung_84 ?_
          refine r_iald X hM 34 rfl (Nat.le_of_ble_eq_true rfl) hE dX5_isRung_85 (fun v11 hE => ?_)
          obtain ⟨v12, h, hE⟩ := ob_some hE
          refine r_callV1 X hM 40 rfl ck_X5 (rest := [vI ((8 * b1) + x2), .ref (ad 33)]) (met_X5_costOf l G ad hp0 M5 v11 h) (cwV 1 X.ht (lw_V q3339 q3341 qs101 q170 q3342) rfl rfl rfl hd_X5_costOf (cxR (by decide) (by decide))) rfl hl.1 rfl (Nat.le_of_ble_eq_true rfl) dX5_isRung_86 ⟨Nat.le_refl _, Nat.le_refl _⟩ (fun H locs hM => ?_)
          exact hjkj7 v12 _ _ _ hM (lv_sub hl [0, 1, 2] rfl) hE
        · refine e_lconst X 0 dX5_isRung_70 (by decide) ?_
          refine e_goto X dX5_isRung_71 rfl ?_
          exact hjkj7 0 _ _ _ hM (lv_sub hl [0, 1, 2] rfl) hE
      refine e_icmp_ne X (w32 b1) (w32 x2) rfl rfl hE dX5_isRung_32 rfl (fun hE => ?_) (fun hE => ?_)
      · refine e_aload_n X hl 0 rfl dX5_isRung_39 rfl ?_
        refine e_iload_n X hl 1 rfl dX5_isRung_40 rfl ?_
        refine e_iload_n X hl 2 rfl dX5_isRung_41 rfl ?_
        obtain ⟨v13, h, hE⟩ := ob_some hE
        refine r_callV1 X hM 40 rfl ck_X5 (rest := [vI ((8 * b1) + x2), .ref (ad 34)]) (met_X5_cheapest l G ad hp0 M b1 x2 h) (cwV 2 X.ht (lw_V q3406 q3408 qs110 q170 q3409) rfl rfl rfl hd_X5_cheapest (cxR (by decide) (by decide))) rfl hl.1 rfl (Nat.le_of_ble_eq_true rfl) dX5_isRung_42 ⟨Nat.le_refl _, Nat.le_refl _⟩ (fun H locs hM => ?_)
        exact hjkj3 v13 _ _ _ hM (lv_sub hl [0, 1, 2] rfl) hE
      · refine e_iconst X dX5_isRung_35 ?_
        refine e_goto X dX5_isRung_36 rfl ?_
        exact hjkj3 (-1) _ _ _ hM (lv_sub hl [0, 1, 2] rfl) hE
theorem wl_X5_isRung_2 {p : Program} {l : Launch} {e : Env} {s : State} {m : MethodId} {args : Array Value} {below : List Frame} {meth : Method} {c : Code} {G : GG} {ad : Nat → Nat} {hp0 : HP} (X : CX p s m args meth c cX5_isRung 3 RX5 (some .boolean) G) {N : Nat}   {k : RM → Int → Option (Int × RM)} {out : (Int × RM)} : ∀ (n : Nat) (M : RM) (x1 : Int) (H : Heap) (locs : List Loc) (ls : Array Slot) (hE : f_X5_isRung_L2 N  k n M x1 = some out) (hM : RW G dX5 ad hp0 M H locs) (hl : lv_has ls 3 [(0, .ref (ad 40)), (1, vI x1)]) (hk : ∀ (M : RM) (x1 : Int) (H : Heap) (locs : List Loc) (ls : Array Slot), RW G dX5 ad hp0 M H locs → lv_has ls 3 [(0, .ref (ad 40)), (1, vI x1)] → k M x1 = some out → W p l e (rmD 11) s m args below meth c H locs 0 0 (QR below G dX5 ad hp0 args s (some (vI out.1)) out.2) (F0 m 102 ls [])), W p l e (rmD 11) s m args below meth c H locs 0 0 (QR below G dX5 ad hp0 args s (some (vI out.1)) out.2) (F0 m 2 ls []) := by
  intro n
  induction n with
  | zero =>
    intro M x1 H locs ls hE hM hl hk
    unfold f_X5_isRung_L2 at hE
    cases hE
  | succ n ih =>
    intro M x1 H locs ls hE hM hl hk
    unfold f_X5_isRung_L2 at hE
    refine e_iload_n X hl 1 rfl dX5_isRung_2 rfl ?_
    refine e_aload_n X hl 0 rfl dX5_isRung_3 rfl ?_
    obtain ⟨v1, h, hE⟩ := ob_some hE
    refine r_callV1 X hM 40 rfl ck_X5 (rest := [vI x1]) (met_X5_towns_2 l G ad hp0 M h) (cwV 0 X.ht (lw_V q3187 q3189 qs75 q170 q3190) rfl rfl rfl hd_X5_towns_2 (cxR (by decide) (by decide))) rfl hl.1 rfl (Nat.le_of_ble_eq_true rfl) dX5_isRung_4 ⟨Nat.le_refl _, Nat.le_refl _⟩ (fun H locs hM => ?_)
    refine e_icmp_ge X (w32 x1) (w32 v1) rfl rfl hE dX5_isRung_7 rfl (fun hE => ?_) (fun hE => ?_)
    · exact hk M x1 _ _ _ hM (lv_sub hl [0, 1] rfl) hE
    · refine e_iconst X dX5_isRung_10 ?_
      refine e_istore_n X hl [(2, vI 0), (0, .ref (ad 40)), (1, vI x1)] dX5_isRung_11 rfl (by decide) rfl (fun ls hl => ?_)
      refine wl_X5_isRung_12 X _ M 0 _ _ _ hE hM (lv_sub hl [1, 2, 0] rfl) (fun M14 v15 H locs ls hM hl hE => ?_)
      refine e_iinc X hl 1 hE (fun v16 => [(1, vI v16), (0, .ref (ad 40)), (2, vI v15)]) rfl dX5_isRung_96 (by decide) (fun _ => rfl) (fun v16 hE ls hl => ?_)
      refine e_goto X dX5_isRung_99 rfl ?_
      exact ih M14 v16 _ _ _ hE hM (lv_sub hl [1, 0] rfl) hk
theorem wl_X5_isRung_120 {p : Program} {l : Launch} {e : Env} {s : State} {m : MethodId} {args : Array Value} {below : List Frame} {meth : Method} {c : Code} {G : GG} {ad : Nat → Nat} {hp0 : HP} (X : CX p s m args meth c cX5_isRung 3 RX5 (some .boolean) G) {N : Nat}   {k : RM → Int → Option (Int × RM)} {out : (Int × RM)} : ∀ (n : Nat) (M : RM) (x1 : Int) (H : Heap) (locs : List Loc) (ls : Array Slot) (hE : f_X5_isRung_L120 N  k n M x1 = some out) (hM : RW G dX5 ad hp0 M H locs) (hl : lv_has ls 3 [(0, .ref (ad 40)), (1, vI x1)]) (hk : ∀ (M : RM) (x1 : Int) (H : Heap) (locs : List Loc) (ls : Array Slot), RW G dX5 ad hp0 M H locs → lv_has ls 3 [(0, .ref (ad 40)), (1, vI x1)] → k M x1 = some out → W p l e (rmD 11) s m args below meth c H locs 0 0 (QR below G dX5 ad hp0 args s (some (vI out.1)) out.2) (F0 m 156 ls [])), W p l e (rmD 11) s m args below meth c H locs 0 0 (QR below G dX5 ad hp0 args s (some (vI out.1)) out.2) (F0 m 120 ls []) := by
  intro n
  induction n with
  | zero =>
    intro M x1 H locs ls hE hM hl hk
    unfold f_X5_isRung_L120 at hE
    cases hE
  | succ n ih =>
    intro M x1 H locs ls hE hM hl hk
    unfold f_X5_isRung_L120 at hE
    refine e_iload_n X hl 1 rfl dX5_isRung_120 rfl ?_
    refine e_aload_n X hl 0 rfl dX5_isRung_121 rfl ?_
    obtain ⟨v21, h, hE⟩ := ob_some hE
    refine r_callV1 X hM 40 rfl ck_X5 (rest := [vI x1]) (met_X5_towns_2 l G ad hp0 M h) (cwV 0 X.ht (lw_V q3187 q3189 qs75 q170 q3190) rfl rfl rfl hd_X5_towns_2 (cxR (by decide) (by decide))) rfl hl.1 rfl (Nat.le_of_ble_eq_true rfl) dX5_isRung_122 ⟨Nat.le_refl _, Nat.le_refl _⟩ (fun H locs hM => ?_)
    refine e_icmp_ge X (w32 x1) (w32 v21) rfl rfl hE dX5_isRung_125 rfl (fun hE => ?_) (fun hE => ?_)
    · exact hk M x1 _ _ _ hM (lv_sub hl [0, 1] rfl) hE
    · refine e_aload_n X hl 0 rfl dX5_isRung_128 rfl ?_
      refine r_getR X hM ck_X5 40 32 rfl rfl (by decide) q3066 rfl dX5_isRung_129 ?_
      refine e_iconst X dX5_isRung_132 ?_
      refine e_iload_n X hl 1 rfl dX5_isRung_133 rfl ?_
      refine r_iast X hM 32 rfl (Nat.le_of_ble_eq_true rfl) hE dX5_isRung_134 (fun M22 hE H locs hM => ?_)
      refine e_aload_n X hl 0 rfl dX5_isRung_135 rfl ?_
      refine e_iconst X dX5_isRung_136 ?_
      refine e_aload_n X hl 0 rfl dX5_isRung_137 rfl ?_
      refine r_getI X hM ck_X5 40 35 rfl rfl (by decide) q3069 rfl dX5_isRung_138 ?_
      refine e_lconst X 0 dX5_isRung_141 (by decide) ?_
      obtain ⟨v23, M24, h, hE⟩ := ob2_some hE
      refine r_callV1 X hM 40 rfl ck_X5 (rest := []) (met_X5_rings l G ad hp0 9 M22 1 (M22 40 35) 0 h) (cwV 3 X.ht (lw_V q3481 q3483 qs118 q170 q3484) rfl rfl rfl hd_X5_rings (cxR (by decide) (by decide))) rfl hl.1 rfl (Nat.le_of_ble_eq_true rfl) dX5_isRung_142 ⟨Nat.le_refl _, Nat.le_refl _⟩ (fun H locs hM => ?_)
      refine e_if_eq X (w32 v23) rfl hE dX5_isRung_145 rfl (fun hE => ?_) (fun hE => ?_)
      · refine e_iinc X hl 1 hE (fun v25 => [(1, vI v25), (0, .ref (ad 40))]) rfl dX5_isRung_150 (by decide) (fun _ => rfl) (fun v25 hE ls hl => ?_)
        refine e_goto X dX5_isRung_153 rfl ?_
        exact ih M24 v25 _ _ _ hE hM (lv_sub hl [1, 0] rfl) hk
      · refine e_iconst X dX5_isRung_148 ?_
        cases hE
        exact r_zret (x := 1) X hM rfl dX5_isRung_149
theorem wl_X5_isRung_107 {p : Program} {l : Launch} {e : Env} {s : State} {m : MethodId} {args : Array Value} {below : List Frame} {meth : Method} {c : Code} {G : GG} {ad : Nat → Nat} {hp0 : HP} (X : CX p s m args meth c cX5_isRung 3 RX5 (some .boolean) G) {N : Nat}   {k : RM → Option (Int × RM)} {out : (Int × RM)} : ∀ (n : Nat) (M : RM) (H : Heap) (locs : List Loc) (ls : Array Slot) (hE : f_X5_isRung_L107 N  k n M = some out) (hM : RW G dX5 ad hp0 M H locs) (hl : lv_has ls 3 [(0, .ref (ad 40))]) (hk : ∀ (M : RM) (H : Heap) (locs : List Loc) (ls : Array Slot), RW G dX5 ad hp0 M H locs → lv_has ls 3 [(0, .ref (ad 40))] → k M = some out → W p l e (rmD 11) s m args below meth c H locs 0 0 (QR below G dX5 ad hp0 args s (some (vI out.1)) out.2) (F0 m 169 ls [])), W p l e (rmD 11) s m args below meth c H locs 0 0 (QR below G dX5 ad hp0 args s (some (vI out.1)) out.2) (F0 m 107 ls []) := by
  intro n
  induction n with
  | zero =>
    intro M H locs ls hE hM hl hk
    unfold f_X5_isRung_L107 at hE
    cases hE
  | succ n ih =>
    intro M H locs ls hE hM hl hk
    unfold f_X5_isRung_L107 at hE
    refine e_aload_n X hl 0 rfl dX5_isRung_107 rfl ?_
    refine r_getI X hM ck_X5 40 35 rfl rfl (by decide) q3069 rfl dX5_isRung_108 ?_
    refine e_aload_n X hl 0 rfl dX5_isRung_111 rfl ?_
    obtain ⟨v20, h, hE⟩ := ob_some hE
    refine r_callV1 X hM 40 rfl ck_X5 (rest := [vI (M 40 35)]) (met_X5_towns_2 l G ad hp0 M h) (cwV 0 X.ht (lw_V q3187 q3189 qs75 q170 q3190) rfl rfl rfl hd_X5_towns_2 (cxR (by decide) (by decide))) rfl hl.1 rfl (Nat.le_of_ble_eq_true rfl) dX5_isRung_112 ⟨Nat.le_refl _, Nat.le_refl _⟩ (fun H locs hM => ?_)
    refine e_icmp_gt X (w32 (M 40 35)) (w32 v20) rfl rfl hE dX5_isRung_115 rfl (fun hE => ?_) (fun hE => ?_)
    · exact hk M _ _ _ hM (lv_sub hl [0] rfl) hE
    · refine e_iconst X dX5_isRung_118 ?_
      refine e_istore_n X hl [(1, vI 0), (0, .ref (ad 40))] dX5_isRung_119 rfl (by decide) rfl (fun ls hl => ?_)
      refine wl_X5_isRung_120 X _ M 0 _ _ _ hE hM (lv_sub hl [1, 0] rfl) (fun M26 v27 H locs ls hM hl hE => ?_)
      refine e_aload_n X hl 0 rfl dX5_isRung_156 rfl ?_
      refine e_dup X dX5_isRung_157 rfl ?_
      refine r_getI X hM ck_X5 40 35 rfl rfl (by decide) q3069 rfl dX5_isRung_158 ?_
      refine e_iconst X dX5_isRung_161 ?_
      refine e_iadd X dX5_isRung_162 ?_
      refine r_putI X hM ck_X5 40 35 rfl rfl (by decide) q3069 rfl rfl hE rfl dX5_isRung_163 (fun M28 hE H locs hM => ?_)
      refine e_goto X dX5_isRung_166 rfl ?_
      exact ih M28 _ _ _ hE hM (lv_sub hl [0] rfl) hk
theorem wb_X5_isRung {p : Program} {l : Launch} {e : Env} {s : State} {m : MethodId} {args : Array Value} {below : List Frame} {meth : Method} {c : Code} {G : GG} {ad : Nat → Nat} {hp0 : HP} (X : CX p s m args meth c cX5_isRung 3 RX5 (some .boolean) G) {N : Nat} {M : RM}   {out : (Int × RM)} (hE : f_X5_isRung N M = some out) {H : Heap} {locs : List Loc} {ls : Array Slot} (hM : RW G dX5 ad hp0 M H locs) (hl : lv_has ls 3 [(0, .ref (ad 40))]) : W p l e (rmD 11) s m args below meth c H locs 0 0 (QR below G dX5 ad hp0 args s (some (vI out.1)) out.2) (F0 m 0 ls []) := by
  unfold f_X5_isRung at hE
  refine e_iconst X dX5_isRung_0 ?_
  refine e_istore_n X hl [(1, vI 0), (0, .ref (ad 40))] dX5_isRung_1 rfl (by decide) rfl (fun ls hl => ?_)
  refine wl_X5_isRung_2 X _ M 0 _ _ _ hE hM (lv_sub hl [1, 0] rfl) (fun M17 v18 H locs ls hM hl hE => ?_)
  refine e_aload_n X hl 0 rfl dX5_isRung_102 rfl ?_
  refine e_iconst X dX5_isRung_103 ?_
  refine r_putI X hM ck_X5 40 35 rfl rfl (by decide) q3069 rfl rfl hE rfl dX5_isRung_104 (fun M19 hE H locs hM => ?_)
  refine wl_X5_isRung_107 X _ M19 _ _ _ hE hM (lv_sub hl [0] rfl) (fun M29 H locs ls hM hl hE => ?_)
  refine e_aload_n X hl 0 rfl dX5_isRung_169 rfl ?_
  refine e_iconst X dX5_isRung_170 ?_
  refine r_putI X hM ck_X5 40 35 rfl rfl (by decide) q3069 rfl rfl hE rfl dX5_isRung_171 (fun M30 hE H locs hM => ?_)
  refine e_iconst X dX5_isRung_174 ?_
  cases hE
  exact r_zret (x := 0) X hM rfl dX5_isRung_175
theorem met_X5_isRung (l : Launch) (G : GG) (ad : Nat → Nat) (hp0 : HP) {N : Nat} (M : RM)   {out : (Int × RM)} (hE : f_X5_isRung N M = some out) : MR l yX5_isRung (ws_ yX5_isRung cX5_isRung 3 (some .boolean)) 11 G dX5 ad hp0 [.ref (ad 40)] M (some (vI out.1)) out.2 :=
  MR.of (by decide) (Nat.le_of_ble_eq_true rfl) rfl (fun p e s m below meth c ls X hM hl => wb_X5_isRung X hE hM hl)
def f_X5_judge_L36 (N : Nat)  (k : RM → Int → Option (Int × RM)) : Nat → RM → Int → Option (Int × RM)
  | 0, _, _ => none
  | n + 1, M, x4 =>
    ob (f_X5_many M) fun v6 => if w32 v6 ≤ w32 x4 then (k M x4) else (ob (gA 25 M 14 x4) fun v7 => ob (sA 25 M 37 x4 v7) fun M8 => jn (x4 + 1) fun v9 => f_X5_judge_L36 N  k n M8 v9)
def f_X5_judge_L73 (N : Nat) (M : RM)  (k : Int → Option (Int × RM)) : Nat → Int → Option (Int × RM)
  | 0, _ => none
  | n + 1, x4 =>
    ob (f_X5_many M) fun v14 => if w32 v14 ≤ w32 x4 then (k x4) else (ob (gA 25 M 37 x4) fun v15 => ob (gA 25 M 14 x4) fun v16 => if w32 v15 = w32 v16 then (jn (x4 + 1) fun v17 => f_X5_judge_L73 N M  k n v17) else (some (2, M)))
def f_X5_judge (N : Nat) (M : RM) (a1 : Int) (a2 : Int) : Option (Int × RM) :=
  ob (f_X5_whyNot M a1 a2) fun v1 => if w32 v1 = 0 then (ob2 (f_X5_tells N M a1 a2) fun v2 M3 => if ¬ w32 v2 = 0 then (ob2 (f_X5_isRung N M3) fun v4 M5 => if w32 v4 = 0 then (f_X5_judge_L36 N  (fun (M10 : RM) (v11 : Int) => ob2 (f_X5_flows N M10) fun v12 M13 => f_X5_judge_L73 N M13  (fun (v18 : Int) => some (3, M13)) N 0) N M5 0) else (some (1, M5))) else (some (0, M3))) else (some (v1, M))
theorem hd_X5_judge : yX5_judge.cls = RX5 ∧ yX5_judge.cls ≠ "java/lang/invoke/MethodHandle" ∧ yX5_judge.cls ≠ "java/lang/invoke/VarHandle" ∧ (parseMethodDescriptor yX5_judge.desc).map (fun d => d.parameters.length) = some 2 := by decide +kernel
theorem wl_X5_judge_36 {p : Program} {l : Launch} {e : Env} {s : State} {m : MethodId} {args : Array Value} {below : List Frame} {meth : Method} {c : Code} {G : GG} {ad : Nat → Nat} {hp0 : HP} (X : CX p s m args meth c cX5_judge 5 RX5 (some .int) G) {N : Nat}   {k : RM → Int → Option (Int × RM)} {out : (Int × RM)} : ∀ (n : Nat) (M : RM) (x4 : Int) (H : Heap) (locs : List Loc) (ls : Array Slot) (hE : f_X5_judge_L36 N  k n M x4 = some out) (hM : RW G dX5 ad hp0 M H locs) (hl : lv_has ls 5 [(0, .ref (ad 40)), (4, vI x4)]) (hk : ∀ (M : RM) (x4 : Int) (H : Heap) (locs : List Loc) (ls : Array Slot), RW G dX5 ad hp0 M H locs → lv_has ls 5 [(0, .ref (ad 40)), (4, vI x4)] → k M x4 = some out → W p l e (rmD 12) s m args below meth c H locs 0 0 (QR below G dX5 ad hp0 args s (some (vI out.1)) out.2) (F0 m 65 ls [])), W p l e (rmD 12) s m args below meth c H locs 0 0 (QR below G dX5 ad hp0 args s (some (vI out.1)) out.2) (F0 m 36 ls []) := by
  intro n
  induction n with
  | zero =>
    intro M x4 H locs ls hE hM hl hk
    unfold f_X5_judge_L36 at hE
    cases hE
  | succ n ih =>
    intro M x4 H locs ls hE hM hl hk
    unfold f_X5_judge_L36 at hE
    refine e_iload X hl 1 rfl dX5_judge_36 ?_
    refine e_aload_n X hl 0 rfl dX5_judge_38 rfl ?_
    obtain ⟨v6, h, hE⟩ := ob_some hE
    refine r_callV1 X hM 40 rfl ck_X5 (rest := [vI x4]) (met_X5_many l G ad hp0 M h) (cwV 0 X.ht (lw_V q3206 q3208 qs77 q170 q3209) rfl rfl rfl hd_X5_many (cxR (by decide) (by decide))) rfl hl.1 rfl (Nat.le_of_ble_eq_true rfl) dX5_judge_39 ⟨Nat.le_refl _, Nat.le_refl _⟩ (fun H locs hM => ?_)
    refine e_icmp_ge X (w32 x4) (w32 v6) rfl rfl hE dX5_judge_42 rfl (fun hE => ?_) (fun hE => ?_)
    · exact hk M x4 _ _ _ hM (lv_sub hl [0, 1] rfl) hE
    · refine e_aload_n X hl 0 rfl dX5_judge_45 rfl ?_
      refine r_getR X hM ck_X5 40 37 rfl rfl (by decide) q3071 rfl dX5_judge_46 ?_
      refine e_iload X hl 1 rfl dX5_judge_49 ?_
      refine e_aload_n X hl 0 rfl dX5_judge_51 rfl ?_
      refine r_getR X hM ck_X5 40 14 rfl rfl (by decide) q3048 rfl dX5_judge_52 ?_
      refine e_iload X hl 1 rfl dX5_judge_55 ?_
      refine r_iald X hM 14 rfl (Nat.le_of_ble_eq_true rfl) hE dX5_judge_57 (fun v7 hE => ?_)
      refine r_iast X hM 37 rfl (Nat.le_of_ble_eq_true rfl) hE dX5_judge_58 (fun M8 hE H locs hM => ?_)
      refine e_iinc X hl 1 hE (fun v9 => [(4, vI v9), (0, .ref (ad 40))]) rfl dX5_judge_59 (by decide) (fun _ => rfl) (fun v9 hE ls hl => ?_)
      refine e_goto X dX5_judge_62 rfl ?_
      exact ih M8 v9 _ _ _ hE hM (lv_sub hl [1, 0] rfl) hk
theorem wl_X5_judge_73 {p : Program} {l : Launch} {e : Env} {s : State} {m : MethodId} {args : Array Value} {below : List Frame} {meth : Method} {c : Code} {G : GG} {ad : Nat → Nat} {hp0 : HP} (X : CX p s m args meth c cX5_judge 5 RX5 (some .int) G) {N : Nat} {M : RM}   {k : Int → Option (Int × RM)} {out : (Int × RM)} : ∀ (n : Nat) (x4 : Int) (H : Heap) (locs : List Loc) (ls : Array Slot) (hE : f_X5_judge_L73 N M  k n x4 = some out) (hM : RW G dX5 ad hp0 M H locs) (hl : lv_has ls 5 [(0, .ref (ad 40)), (4, vI x4)]) (hk : ∀ (x4 : Int) (H : Heap) (locs : List Loc) (ls : Array Slot), RW G dX5 ad hp0 M H locs → lv_has ls 5 [(0, .ref (ad 40)), (4, vI x4)] → k x4 = some out → W p l e (rmD 12) s m args below meth c H locs 0 0 (QR below G dX5 ad hp0 args s (some (vI out.1)) out.2) (F0 m 107 ls [])), W p l e (rmD 12) s m args below meth c H locs 0 0 (QR below G dX5 ad hp0 args s (some (vI out.1)) out.2) (F0 m 73 ls []) := by
  intro n
  induction n with
  | zero =>
    intro x4 H locs ls hE hM hl hk
    unfold f_X5_judge_L73 at hE
    cases hE
  | succ n ih =>
    intro x4 H locs ls hE hM hl hk
    unfold f_X5_judge_L73 at hE
    refine e_iload X hl 1 rfl dX5_judge_73 ?_
    refine e_aload_n X hl 0 rfl dX5_judge_75 rfl ?_
    obtain ⟨v14, h, hE⟩ := ob_some hE
    refine r_callV1 X hM 40 rfl ck_X5 (rest := [vI x4]) (met_X5_many l G ad hp0 M h) (cwV 0 X.ht (lw_V q3206 q3208 qs77 q170 q3209) rfl rfl rfl hd_X5_many (cxR (by decide) (by decide))) rfl hl.1 rfl (Nat.le_of_ble_eq_true rfl) dX5_judge_76 ⟨Nat.le_refl _, Nat.le_refl _⟩ (fun H locs hM => ?_)
    refine e_icmp_ge X (w32 x4) (w32 v14) rfl rfl hE dX5_judge_79 rfl (fun hE => ?_) (fun hE => ?_)
    · exact hk x4 _ _ _ hM (lv_sub hl [0, 1] rfl) hE
    · refine e_aload_n X hl 0 rfl dX5_judge_82 rfl ?_
      refine r_getR X hM ck_X5 40 37 rfl rfl (by decide) q3071 rfl dX5_judge_83 ?_
      refine e_iload X hl 1 rfl dX5_judge_86 ?_
      refine r_iald X hM 37 rfl (Nat.le_of_ble_eq_true rfl) hE dX5_judge_88 (fun v15 hE => ?_)
      refine e_aload_n X hl 0 rfl dX5_judge_89 rfl ?_
      refine r_getR X hM ck_X5 40 14 rfl rfl (by decide) q3048 rfl dX5_judge_90 ?_
      refine e_iload X hl 1 rfl dX5_judge_93 ?_
      refine r_iald X hM 14 rfl (Nat.le_of_ble_eq_true rfl) hE dX5_judge_95 (fun v16 hE => ?_)
      refine e_icmp_eq X (w32 v15) (w32 v16) rfl rfl hE dX5_judge_96 rfl (fun hE => ?_) (fun hE => ?_)
      · refine e_iinc X hl 1 hE (fun v17 => [(4, vI v17), (0, .ref (ad 40))]) rfl dX5_judge_101 (by decide) (fun _ => rfl) (fun v17 hE ls hl => ?_)
        refine e_goto X dX5_judge_104 rfl ?_
        exact ih v17 _ _ _ hE hM (lv_sub hl [1, 0] rfl) hk
      · refine e_iconst X dX5_judge_99 ?_
        cases hE
        exact r_zret (x := 2) X hM rfl dX5_judge_100
theorem wb_X5_judge {p : Program} {l : Launch} {e : Env} {s : State} {m : MethodId} {args : Array Value} {below : List Frame} {meth : Method} {c : Code} {G : GG} {ad : Nat → Nat} {hp0 : HP} (X : CX p s m args meth c cX5_judge 5 RX5 (some .int) G) {N : Nat} {M : RM} {a1 : Int} {a2 : Int}   {out : (Int × RM)} (hE : f_X5_judge N M a1 a2 = some out) {H : Heap} {locs : List Loc} {ls : Array Slot} (hM : RW G dX5 ad hp0 M H locs) (hl : lv_has ls 5 [(0, .ref (ad 40)), (1, vI a1), (2, vI a2)]) : W p l e (rmD 12) s m args below meth c H locs 0 0 (QR below G dX5 ad hp0 args s (some (vI out.1)) out.2) (F0 m 0 ls []) := by
  unfold f_X5_judge at hE
  refine e_aload_n X hl 0 rfl dX5_judge_0 rfl ?_
  refine e_iload_n X hl 1 rfl dX5_judge_1 rfl ?_
  refine e_iload_n X hl 2 rfl dX5_judge_2 rfl ?_
  obtain ⟨v1, h, hE⟩ := ob_some hE
  refine r_callV1 X hM 40 rfl ck_X5 (rest := []) (met_X5_whyNot l G ad hp0 M a1 a2 h) (cwV 2 X.ht (lw_V q3465 q3467 qs115 q170 q3468) rfl rfl rfl hd_X5_whyNot (cxR (by decide) (by decide))) rfl hl.1 rfl (Nat.le_of_ble_eq_true rfl) dX5_judge_3 ⟨Nat.le_refl _, Nat.le_refl _⟩ (fun H locs hM => ?_)
  refine e_istore_n X hl [(3, vI v1), (0, .ref (ad 40)), (1, vI a1), (2, vI a2)] dX5_judge_6 rfl (by decide) rfl (fun ls hl => ?_)
  refine e_iload_n X hl 0 rfl dX5_judge_7 rfl ?_
  refine e_if_eq X (w32 v1) rfl hE dX5_judge_8 rfl (fun hE => ?_) (fun hE => ?_)
  · refine e_aload_n X hl 1 rfl dX5_judge_13 rfl ?_
    refine e_iload_n X hl 2 rfl dX5_judge_14 rfl ?_
    refine e_iload_n X hl 3 rfl dX5_judge_15 rfl ?_
    obtain ⟨v2, M3, h, hE⟩ := ob2_some hE
    refine r_callV1 X hM 40 rfl ck_X5 (rest := []) (met_X5_tells l G ad hp0 M a1 a2 h) (cwV 2 X.ht (lw_V q3473 q3475 qs116 q170 q3476) rfl rfl rfl hd_X5_tells (cxR (by decide) (by decide))) rfl hl.1 rfl (Nat.le_of_ble_eq_true rfl) dX5_judge_16 ⟨Nat.le_refl _, Nat.le_refl _⟩ (fun H locs hM => ?_)
    refine e_if_ne X (w32 v2) rfl hE dX5_judge_19 rfl (fun hE => ?_) (fun hE => ?_)
    · refine e_aload_n X hl 1 rfl dX5_judge_24 rfl ?_
      obtain ⟨v4, M5, h, hE⟩ := ob2_some hE
      refine r_callV1 X hM 40 rfl ck_X5 (rest := []) (met_X5_isRung l G ad hp0 M3 h) (cwV 0 X.ht (lw_V q3477 q3479 qs117 q170 q3480) rfl rfl rfl hd_X5_isRung (cxR (by decide) (by decide))) rfl hl.1 rfl (Nat.le_of_ble_eq_true rfl) dX5_judge_25 ⟨Nat.le_refl _, Nat.le_refl _⟩ (fun H locs hM => ?_)
      refine e_if_eq X (w32 v4) rfl hE dX5_judge_28 rfl (fun hE => ?_) (fun hE => ?_)
      · refine e_iconst X dX5_judge_33 ?_
        refine e_istore X hl [(4, vI 0), (3, vI v1), (0, .ref (ad 40)), (1, vI a1), (2, vI a2)] dX5_judge_34 (by decide) rfl (fun ls hl => ?_)
        refine wl_X5_judge_36 X _ M5 0 _ _ _ hE hM (lv_sub hl [2, 0] rfl) (fun M10 v11 H locs ls hM hl hE => ?_)
        refine e_aload_n X hl 0 rfl dX5_judge_65 rfl ?_
        obtain ⟨v12, M13, h, hE⟩ := ob2_some hE
        refine r_callV1 X hM 40 rfl ck_X5 (rest := []) (met_X5_flows l G ad hp0 M10 h) (cwV 0 X.ht (lw_V q3310 q3312 qs94 q170 q3313) rfl rfl rfl hd_X5_flows (cxR (by decide) (by decide))) rfl hl.1 rfl (Nat.le_of_ble_eq_true rfl) dX5_judge_66 ⟨Nat.le_refl _, Nat.le_refl _⟩ (fun H locs hM => ?_)
        refine e_pop X dX5_judge_69 rfl ?_
        refine e_iconst X dX5_judge_70 ?_
        refine e_istore X hl [(4, vI 0), (0, .ref (ad 40))] dX5_judge_71 (by decide) rfl (fun ls hl => ?_)
        refine wl_X5_judge_73 X _ 0 _ _ _ hE hM (lv_sub hl [1, 0] rfl) (fun v18 H locs ls hM hl hE => ?_)
        refine e_iconst X dX5_judge_107 ?_
        cases hE
        exact r_zret (x := 3) X hM rfl dX5_judge_108
      · refine e_iconst X dX5_judge_31 ?_
        cases hE
        exact r_zret (x := 1) X hM rfl dX5_judge_32
    · refine e_iconst X dX5_judge_22 ?_
      cases hE
      exact r_zret (x := 0) X hM rfl dX5_judge_23
  · refine e_iload_n X hl 0 rfl dX5_judge_11 rfl ?_
    cases hE
    exact r_zret X hM rfl dX5_judge_12
theorem met_X5_judge (l : Launch) (G : GG) (ad : Nat → Nat) (hp0 : HP) {N : Nat} (M : RM) (a1 : Int) (a2 : Int)  {out : (Int × RM)} (hE : f_X5_judge N M a1 a2 = some out) : MR l yX5_judge (ws_ yX5_judge cX5_judge 5 (some .int)) 12 G dX5 ad hp0 [.ref (ad 40), vI a1, vI a2] M (some (vI out.1)) out.2 :=
  MR.of (by decide) (Nat.le_of_ble_eq_true rfl) rfl (fun p e s m below meth c ls X hM hl => wb_X5_judge X hE hM hl)
def f_X5_ring (N : Nat) (M : RM) (a1 : Int) (a2 : Int) (a3 : Int) : Option (Int × RM) :=
  ob (f_X5_isList M a1) fun v1 => if w32 v1 = 0 then (some ((-1), M)) else (ob (f_X5_in M (w32 a3) 0 8) fun v2 => if ¬ w32 v2 = 0 then (ob (f_X5_whyNot M a1 a2) fun v3 => if w32 v3 = 0 then (ob2 (f_X5_tells N M a1 a2) fun v4 M5 => if ¬ w32 v4 = 0 then (ob2 (f_X5_isRung N M5) fun v6 M7 => if ¬ w32 v6 = 0 then (if ¬ w32 a3 = 0 then (if w32 (M7 40 35) < w32 a3 then (some ((-5), M7)) else (ob (gA 8 M7 32 (a3 - 1)) fun v8 => some (v8, M7))) else (some (M7 40 35, M7))) else (some ((-5), M7))) else (some ((-3), M5))) else (some (v3, M))) else (some ((-1), M)))
theorem hd_X5_ring : yX5_ring.cls = RX5 ∧ yX5_ring.cls ≠ "java/lang/invoke/MethodHandle" ∧ yX5_ring.cls ≠ "java/lang/invoke/VarHandle" ∧ (parseMethodDescriptor yX5_ring.desc).map (fun d => d.parameters.length) = some 3 := by decide +kernel
theorem wb_X5_ring {p : Program} {l : Launch} {e : Env} {s : State} {m : MethodId} {args : Array Value} {below : List Frame} {meth : Method} {c : Code} {G : GG} {ad : Nat → Nat} {hp0 : HP} (X : CX p s m args meth c cX5_ring 5 RX5 (some .int) G) {N : Nat} {M : RM} {a1 : Int} {a2 : Int} {a3 : Int}   {out : (Int × RM)} (hE : f_X5_ring N M a1 a2 a3 = some out) {H : Heap} {locs : List Loc} {ls : Array Slot} (hM : RW G dX5 ad hp0 M H locs) (hl : lv_has ls 5 [(0, .ref (ad 40)), (1, vI a1), (2, vI a2), (3, vI a3)]) : W p l e (rmD 12) s m args below meth c H locs 0 0 (QR below G dX5 ad hp0 args s (some (vI out.1)) out.2) (F0 m 0 ls []) := by
  unfold f_X5_ring at hE
  refine e_iload_n X hl 1 rfl dX5_ring_0 rfl ?_
  obtain ⟨v1, h, hE⟩ := ob_some hE
  refine r_callS1 X hM (rest := []) (met_X5_isList l G ad hp0 M a1 h) (va_cwS 1 X.ht (lw_S q3469 q3470 q170 q3471) rfl rfl rfl hd_X5_isList (cxR (by decide) (by decide))) rfl hl.1 rfl (Nat.le_of_ble_eq_true rfl) dX5_ring_1 ⟨Nat.le_refl _, Nat.le_refl _⟩ (fun H locs hM => ?_)
  refine e_if_eq X (w32 v1) rfl hE dX5_ring_4 rfl (fun hE => ?_) (fun hE => ?_)
  · refine e_iconst X dX5_ring_19 ?_
    cases hE
    exact r_zret (x := (-1)) X hM rfl dX5_ring_20
  · refine e_iload_n X hl 3 rfl dX5_ring_7 rfl ?_
    refine e_i2l X dX5_ring_8 ?_
    refine e_lconst X 0 dX5_ring_9 (by decide) ?_
    refine e_ldc2 X 8 q3171 (by decide) dX5_ring_10 ?_
    obtain ⟨v2, h, hE⟩ := ob_some hE
    refine r_callS1 X hM (rest := []) (met_X5_in l G ad hp0 M (w32 a3) 0 8 h) (va_cwS 3 X.ht (lw_S q3172 q3173 q170 q3174) rfl rfl rfl hd_X5_in (cxR (by decide) (by decide))) rfl hl.1 rfl (Nat.le_of_ble_eq_true rfl) dX5_ring_13 ⟨Nat.le_refl _, Nat.le_refl _⟩ (fun H locs hM => ?_)
    refine e_if_ne X (w32 v2) rfl hE dX5_ring_16 rfl (fun hE => ?_) (fun hE => ?_)
    · refine e_aload_n X hl 0 rfl dX5_ring_21 rfl ?_
      refine e_iload_n X hl 1 rfl dX5_ring_22 rfl ?_
      refine e_iload_n X hl 2 rfl dX5_ring_23 rfl ?_
      obtain ⟨v3, h, hE⟩ := ob_some hE
      refine r_callV1 X hM 40 rfl ck_X5 (rest := []) (met_X5_whyNot l G ad hp0 M a1 a2 h) (cwV 2 X.ht (lw_V q3465 q3467 qs115 q170 q3468) rfl rfl rfl hd_X5_whyNot (cxR (by decide) (by decide))) rfl hl.1 rfl (Nat.le_of_ble_eq_true rfl) dX5_ring_24 ⟨Nat.le_refl _, Nat.le_refl _⟩ (fun H locs hM => ?_)
      refine e_istore X hl [(4, vI v3), (0, .ref (ad 40)), (1, vI a1), (2, vI a2), (3, vI a3)] dX5_ring_27 (by decide) rfl (fun ls hl => ?_)
      refine e_iload X hl 0 rfl dX5_ring_29 ?_
      refine e_if_eq X (w32 v3) rfl hE dX5_ring_31 rfl (fun hE => ?_) (fun hE => ?_)
      · refine e_aload_n X hl 1 rfl dX5_ring_37 rfl ?_
        refine e_iload_n X hl 2 rfl dX5_ring_38 rfl ?_
        refine e_iload_n X hl 3 rfl dX5_ring_39 rfl ?_
        obtain ⟨v4, M5, h, hE⟩ := ob2_some hE
        refine r_callV1 X hM 40 rfl ck_X5 (rest := []) (met_X5_tells l G ad hp0 M a1 a2 h) (cwV 2 X.ht (lw_V q3473 q3475 qs116 q170 q3476) rfl rfl rfl hd_X5_tells (cxR (by decide) (by decide))) rfl hl.1 rfl (Nat.le_of_ble_eq_true rfl) dX5_ring_40 ⟨Nat.le_refl _, Nat.le_refl _⟩ (fun H locs hM => ?_)
        refine e_if_ne X (w32 v4) rfl hE dX5_ring_43 rfl (fun hE => ?_) (fun hE => ?_)
        · refine e_aload_n X hl 1 rfl dX5_ring_49 rfl ?_
          obtain ⟨v6, M7, h, hE⟩ := ob2_some hE
          refine r_callV1 X hM 40 rfl ck_X5 (rest := []) (met_X5_isRung l G ad hp0 M5 h) (cwV 0 X.ht (lw_V q3477 q3479 qs117 q170 q3480) rfl rfl rfl hd_X5_isRung (cxR (by decide) (by decide))) rfl hl.1 rfl (Nat.le_of_ble_eq_true rfl) dX5_ring_50 ⟨Nat.le_refl _, Nat.le_refl _⟩ (fun H locs hM => ?_)
          refine e_if_ne X (w32 v6) rfl hE dX5_ring_53 rfl (fun hE => ?_) (fun hE => ?_)
          · refine e_iload_n X hl 4 rfl dX5_ring_59 rfl ?_
            refine e_if_ne X (w32 a3) rfl hE dX5_ring_60 rfl (fun hE => ?_) (fun hE => ?_)
            · refine e_iload_n X hl 4 rfl dX5_ring_70 rfl ?_
              refine e_aload_n X hl 1 rfl dX5_ring_71 rfl ?_
              refine r_getI X hM ck_X5 40 35 rfl rfl (by decide) q3069 rfl dX5_ring_72 ?_
              refine e_icmp_gt X (w32 a3) (w32 (M7 40 35)) rfl rfl hE dX5_ring_75 rfl (fun hE => ?_) (fun hE => ?_)
              · refine e_bipush X dX5_ring_89 (by decide) ?_
                cases hE
                exact r_zret (x := (-5)) X hM rfl dX5_ring_91
              · refine e_aload_n X hl 1 rfl dX5_ring_78 rfl ?_
                refine r_getR X hM ck_X5 40 32 rfl rfl (by decide) q3066 rfl dX5_ring_79 ?_
                refine e_iload_n X hl 4 rfl dX5_ring_82 rfl ?_
                refine e_iconst X dX5_ring_83 ?_
                refine e_isub X dX5_ring_84 ?_
                refine r_iald X hM 32 rfl (Nat.le_of_ble_eq_true rfl) hE dX5_ring_85 (fun v8 hE => ?_)
                refine e_goto X dX5_ring_86 rfl ?_
                cases hE
                exact r_zret X hM rfl dX5_ring_91
            · refine e_aload_n X hl 1 rfl dX5_ring_63 rfl ?_
              refine r_getI X hM ck_X5 40 35 rfl rfl (by decide) q3069 rfl dX5_ring_64 ?_
              refine e_goto X dX5_ring_67 rfl ?_
              cases hE
              exact r_zret X hM rfl dX5_ring_91
          · refine e_bipush X dX5_ring_56 (by decide) ?_
            cases hE
            exact r_zret (x := (-5)) X hM rfl dX5_ring_58
        · refine e_bipush X dX5_ring_46 (by decide) ?_
          cases hE
          exact r_zret (x := (-3)) X hM rfl dX5_ring_48
      · refine e_iload X hl 0 rfl dX5_ring_34 ?_
        cases hE
        exact r_zret X hM rfl dX5_ring_36
    · refine e_iconst X dX5_ring_19 ?_
      cases hE
      exact r_zret (x := (-1)) X hM rfl dX5_ring_20
theorem met_X5_ring (l : Launch) (G : GG) (ad : Nat → Nat) (hp0 : HP) {N : Nat} (M : RM) (a1 : Int) (a2 : Int) (a3 : Int)  {out : (Int × RM)} (hE : f_X5_ring N M a1 a2 a3 = some out) : MR l yX5_ring (ws_ yX5_ring cX5_ring 5 (some .int)) 12 G dX5 ad hp0 [.ref (ad 40), vI a1, vI a2, vI a3] M (some (vI out.1)) out.2 :=
  MR.of (by decide) (Nat.le_of_ble_eq_true rfl) rfl (fun p e s m below meth c ls X hM hl => wb_X5_ring X hE hM hl)
def f_X5_gain (N : Nat) (M : RM) (a1 : Int) (a2 : Int) : Option (Int × RM) :=
  ob (f_X5_whyNot M a1 a2) fun v1 => if ¬ w32 v1 = 0 then (some ((-9223372036854775808), M)) else (ob2 (f_X5_tells N M a1 a2) fun v2 M3 => if w32 v2 = 0 then (some ((-9223372036854775808), M3)) else (ob2 (f_X5_isRung N M3) fun v4 M5 => if w32 v4 = 0 then (some ((-9223372036854775808), M5)) else (some (M5 40 36, M5))))
theorem hd_X5_gain : yX5_gain.cls = RX5 ∧ yX5_gain.cls ≠ "java/lang/invoke/MethodHandle" ∧ yX5_gain.cls ≠ "java/lang/invoke/VarHandle" ∧ (parseMethodDescriptor yX5_gain.desc).map (fun d => d.parameters.length) = some 2 := by decide +kernel
theorem wb_X5_gain {p : Program} {l : Launch} {e : Env} {s : State} {m : MethodId} {args : Array Value} {below : List Frame} {meth : Method} {c : Code} {G : GG} {ad : Nat → Nat} {hp0 : HP} (X : CX p s m args meth c cX5_gain 3 RX5 (some .long) G) {N : Nat} {M : RM} {a1 : Int} {a2 : Int}   {out : (Int × RM)} (hE : f_X5_gain N M a1 a2 = some out) {H : Heap} {locs : List Loc} {ls : Array Slot} (hM : RW G dX5 ad hp0 M H locs) (hl : lv_has ls 3 [(0, .ref (ad 40)), (1, vI a1), (2, vI a2)]) : W p l e (rmD 12) s m args below meth c H locs 0 0 (QR below G dX5 ad hp0 args s (some (vL out.1)) out.2) (F0 m 0 ls []) := by
  unfold f_X5_gain at hE
  refine e_aload_n X hl 0 rfl dX5_gain_0 rfl ?_
  refine e_iload_n X hl 1 rfl dX5_gain_1 rfl ?_
  refine e_iload_n X hl 2 rfl dX5_gain_2 rfl ?_
  obtain ⟨v1, h, hE⟩ := ob_some hE
  refine r_callV1 X hM 40 rfl ck_X5 (rest := []) (met_X5_whyNot l G ad hp0 M a1 a2 h) (cwV 2 X.ht (lw_V q3465 q3467 qs115 q170 q3468) rfl rfl rfl hd_X5_whyNot (cxR (by decide) (by decide))) rfl hl.1 rfl (Nat.le_of_ble_eq_true rfl) dX5_gain_3 ⟨Nat.le_refl _, Nat.le_refl _⟩ (fun H locs hM => ?_)
  refine e_if_ne X (w32 v1) rfl hE dX5_gain_6 rfl (fun hE => ?_) (fun hE => ?_)
  · refine e_ldc2 X (-9223372036854775808) q3250 (by decide) dX5_gain_32 ?_
    cases hE
    exact r_lret X hM dX5_gain_35
  · refine e_aload_n X hl 0 rfl dX5_gain_9 rfl ?_
    refine e_iload_n X hl 1 rfl dX5_gain_10 rfl ?_
    refine e_iload_n X hl 2 rfl dX5_gain_11 rfl ?_
    obtain ⟨v2, M3, h, hE⟩ := ob2_some hE
    refine r_callV1 X hM 40 rfl ck_X5 (rest := []) (met_X5_tells l G ad hp0 M a1 a2 h) (cwV 2 X.ht (lw_V q3473 q3475 qs116 q170 q3476) rfl rfl rfl hd_X5_tells (cxR (by decide) (by decide))) rfl hl.1 rfl (Nat.le_of_ble_eq_true rfl) dX5_gain_12 ⟨Nat.le_refl _, Nat.le_refl _⟩ (fun H locs hM => ?_)
    refine e_if_eq X (w32 v2) rfl hE dX5_gain_15 rfl (fun hE => ?_) (fun hE => ?_)
    · refine e_ldc2 X (-9223372036854775808) q3250 (by decide) dX5_gain_32 ?_
      cases hE
      exact r_lret X hM dX5_gain_35
    · refine e_aload_n X hl 0 rfl dX5_gain_18 rfl ?_
      obtain ⟨v4, M5, h, hE⟩ := ob2_some hE
      refine r_callV1 X hM 40 rfl ck_X5 (rest := []) (met_X5_isRung l G ad hp0 M3 h) (cwV 0 X.ht (lw_V q3477 q3479 qs117 q170 q3480) rfl rfl rfl hd_X5_isRung (cxR (by decide) (by decide))) rfl hl.1 rfl (Nat.le_of_ble_eq_true rfl) dX5_gain_19 ⟨Nat.le_refl _, Nat.le_refl _⟩ (fun H locs hM => ?_)
      refine e_if_eq X (w32 v4) rfl hE dX5_gain_22 rfl (fun hE => ?_) (fun hE => ?_)
      · refine e_ldc2 X (-9223372036854775808) q3250 (by decide) dX5_gain_32 ?_
        cases hE
        exact r_lret X hM dX5_gain_35
      · refine e_aload_n X hl 0 rfl dX5_gain_25 rfl ?_
        refine r_getJ X hM ck_X5 40 36 rfl rfl (by decide) q3070 rfl dX5_gain_26 ?_
        refine e_goto X dX5_gain_29 rfl ?_
        cases hE
        exact r_lret X hM dX5_gain_35
theorem met_X5_gain (l : Launch) (G : GG) (ad : Nat → Nat) (hp0 : HP) {N : Nat} (M : RM) (a1 : Int) (a2 : Int)  {out : (Int × RM)} (hE : f_X5_gain N M a1 a2 = some out) : MR l yX5_gain (ws_ yX5_gain cX5_gain 3 (some .long)) 12 G dX5 ad hp0 [.ref (ad 40), vI a1, vI a2] M (some (vL out.1)) out.2 :=
  MR.of (by decide) (Nat.le_of_ble_eq_true rfl) rfl (fun p e s m below meth c ls X hM hl => wb_X5_gain X hE hM hl)
def f_X5_turnsRing_L5 (N : Nat) (M : RM)  (k : Int → Int → Option RM) : Nat → Int → Int → Option RM
  | 0, _, _ => none
  | n + 1, x1, x2 =>
    if w32 (M 40 35) ≤ w32 x2 then (k x1 x2) else (ob (gA 8 M 32 x2) fun v1 => if w32 (M 40 35) = 0 then none else jn (iRem (x2 + 1) (M 40 35)) fun v2 => ob (gA 8 M 32 v2) fun v3 => ob (gA 64 M 34 ((8 * v1) + v3)) fun v4 => ob (f_X5_room M v4) fun v5 => jn (fun (v7 : Int) => jn (x2 + 1) fun v8 => f_X5_turnsRing_L5 N M  k n v7 v8) fun kj6 => if w32 x1 ≤ w32 v5 then (kj6 x1) else (ob (f_X5_room M v4) fun v9 => kj6 v9))
def f_X5_turnsRing_L69 (N : Nat) (b1 : Int) (k : RM → Int → Option RM) : Nat → RM → Int → Option RM
  | 0, _, _ => none
  | n + 1, M, x2 =>
    if w32 (M 40 35) ≤ w32 x2 then (k M x2) else (ob (gA 8 M 32 x2) fun v12 => if w32 (M 40 35) = 0 then none else jn (iRem (x2 + 1) (M 40 35)) fun v13 => ob (gA 8 M 32 v13) fun v14 => ob (gA 64 M 34 ((8 * v12) + v14)) fun v15 => ob (f_X5_goes M v15 b1) fun M16 => jn (x2 + 1) fun v17 => f_X5_turnsRing_L69 N b1 k n M16 v17)
def f_X5_turnsRing (N : Nat) (M : RM)  : Option RM :=
  f_X5_turnsRing_L5 N M  (fun (v10 : Int) (v11 : Int) => f_X5_turnsRing_L69 N v10 (fun (M18 : RM) (v19 : Int) => some M18) N M 0) N 99 0
theorem hd_X5_turnsRing : yX5_turnsRing.cls = RX5 ∧ yX5_turnsRing.cls ≠ "java/lang/invoke/MethodHandle" ∧ yX5_turnsRing.cls ≠ "java/lang/invoke/VarHandle" ∧ (parseMethodDescriptor yX5_turnsRing.desc).map (fun d => d.parameters.length) = some 0 := by decide +kernel
theorem wl_X5_turnsRing_5 {p : Program} {l : Launch} {e : Env} {s : State} {m : MethodId} {args : Array Value} {below : List Frame} {meth : Method} {c : Code} {G : GG} {ad : Nat → Nat} {hp0 : HP} (X : CX p s m args meth c cX5_turnsRing 4 RX5 none G) {N : Nat} {M : RM}   {k : Int → Int → Option RM} {out : RM} : ∀ (n : Nat) (x1 : Int) (x2 : Int) (H : Heap) (locs : List Loc) (ls : Array Slot) (hE : f_X5_turnsRing_L5 N M  k n x1 x2 = some out) (hM : RW G dX5 ad hp0 M H locs) (hl : lv_has ls 4 [(0, .ref (ad 40)), (1, vI x1), (2, vI x2)]) (hk : ∀ (x1 : Int) (x2 : Int) (H : Heap) (locs : List Loc) (ls : Array Slot), RW G dX5 ad hp0 M H locs → lv_has ls 4 [(0, .ref (ad 40)), (1, vI x1), (2, vI x2)] → k x1 x2 = some out → W p l e (rmD 2) s m args below meth c H locs 0 0 (QR below G dX5 ad hp0 args s none out) (F0 m 67 ls [])), W p l e (rmD 2) s m args below meth c H locs 0 0 (QR below G dX5 ad hp0 args s none out) (F0 m 5 ls []) := by
  intro n
  induction n with
  | zero =>
    intro x1 x2 H locs ls hE hM hl hk
    unfold f_X5_turnsRing_L5 at hE
    cases hE
  | succ n ih =>
    intro x1 x2 H locs ls hE hM hl hk
    unfold f_X5_turnsRing_L5 at hE
    refine e_iload_n X hl 2 rfl dX5_turnsRing_5 rfl ?_
    refine e_aload_n X hl 0 rfl dX5_turnsRing_6 rfl ?_
    refine r_getI X hM ck_X5 40 35 rfl rfl (by decide) q3069 rfl dX5_turnsRing_7 ?_
    refine e_icmp_ge X (w32 x2) (w32 (M 40 35)) rfl rfl hE dX5_turnsRing_10 rfl (fun hE => ?_) (fun hE => ?_)
    · exact hk x1 x2 _ _ _ hM (lv_sub hl [0, 1, 2] rfl) hE
    · refine e_aload_n X hl 0 rfl dX5_turnsRing_13 rfl ?_
      refine r_getR X hM ck_X5 40 34 rfl rfl (by decide) q3068 rfl dX5_turnsRing_14 ?_
      refine e_bipush X dX5_turnsRing_17 (by decide) ?_
      refine e_aload_n X hl 0 rfl dX5_turnsRing_19 rfl ?_
      refine r_getR X hM ck_X5 40 32 rfl rfl (by decide) q3066 rfl dX5_turnsRing_20 ?_
      refine e_iload_n X hl 2 rfl dX5_turnsRing_23 rfl ?_
      refine r_iald X hM 32 rfl (Nat.le_of_ble_eq_true rfl) hE dX5_turnsRing_24 (fun v1 hE => ?_)
      refine e_imul X dX5_turnsRing_25 ?_
      refine e_aload_n X hl 0 rfl dX5_turnsRing_26 rfl ?_
      refine r_getR X hM ck_X5 40 32 rfl rfl (by decide) q3066 rfl dX5_turnsRing_27 ?_
      refine e_iload_n X hl 2 rfl dX5_turnsRing_30 rfl ?_
      refine e_iconst X dX5_turnsRing_31 ?_
      refine e_iadd X dX5_turnsRing_32 ?_
      refine e_aload_n X hl 0 rfl dX5_turnsRing_33 rfl ?_
      refine r_getI X hM ck_X5 40 35 rfl rfl (by decide) q3069 rfl dX5_turnsRing_34 ?_
      refine e_iremQ X hE dX5_turnsRing_37 (fun v2 hE => ?_)
      refine r_iald X hM 32 rfl (Nat.le_of_ble_eq_true rfl) hE dX5_turnsRing_38 (fun v3 hE => ?_)
      refine e_iadd X dX5_turnsRing_39 ?_
      refine r_iald X hM 34 rfl (Nat.le_of_ble_eq_true rfl) hE dX5_turnsRing_40 (fun v4 hE => ?_)
      refine e_istore_n X hl [(3, vI v4), (0, .ref (ad 40)), (1, vI x1), (2, vI x2)] dX5_turnsRing_41 rfl (by decide) rfl (fun ls hl => ?_)
      refine e_aload_n X hl 1 rfl dX5_turnsRing_42 rfl ?_
      refine e_iload_n X hl 0 rfl dX5_turnsRing_43 rfl ?_
      obtain ⟨v5, h, hE⟩ := ob_some hE
      refine r_callV1 X hM 40 rfl ck_X5 (rest := []) (met_X5_room l G ad hp0 M v4 h) (cwV 1 X.ht (lw_V q3335 q3337 qs100 q170 q3338) rfl rfl rfl hd_X5_room (cxR (by decide) (by decide))) rfl hl.1 rfl (Nat.le_of_ble_eq_true rfl) dX5_turnsRing_44 ⟨Nat.le_refl _, Nat.le_refl _⟩ (fun H locs hM => ?_)
      refine e_iload_n X hl 2 rfl dX5_turnsRing_47 rfl ?_
      obtain ⟨kj6, hkj6, hE⟩ := jn_ex hE
      have hjkj6 : ∀ (v7 : Int) (H : Heap) (locs : List Loc) (ls : Array Slot), RW G dX5 ad hp0 M H locs → lv_has ls 4 [(0, .ref (ad 40)), (2, vI x2)] → kj6 v7 = some out → W p l e (rmD 2) s m args below meth c H locs 0 0 (QR below G dX5 ad hp0 args s none out) (F0 m 60 ls [vI v7]) := by
        intro v7 H locs ls hM hl hE
        subst hkj6
        refine e_istore_n X hl [(1, vI v7), (0, .ref (ad 40)), (2, vI x2)] dX5_turnsRing_60 rfl (by decide) rfl (fun ls hl => ?_)
        refine e_iinc X hl 2 hE (fun v8 => [(2, vI v8), (1, vI v7), (0, .ref (ad 40))]) rfl dX5_turnsRing_61 (by decide) (fun _ => rfl) (fun v8 hE ls hl => ?_)
        refine e_goto X dX5_turnsRing_64 rfl ?_
        exact ih v7 v8 _ _ _ hE hM (lv_sub hl [2, 1, 0] rfl) hk
      refine e_icmp_ge X (w32 v5) (w32 x1) rfl rfl hE dX5_turnsRing_48 rfl (fun hE => ?_) (fun hE => ?_)
      · refine e_iload_n X hl 2 rfl dX5_turnsRing_59 rfl ?_
        exact hjkj6 x1 _ _ _ hM (lv_sub hl [1, 3] rfl) hE
      · refine e_aload_n X hl 1 rfl dX5_turnsRing_51 rfl ?_
        refine e_iload_n X hl 0 rfl dX5_turnsRing_52 rfl ?_
        obtain ⟨v9, h, hE⟩ := ob_some hE
        refine r_callV1 X hM 40 rfl ck_X5 (rest := []) (met_X5_room l G ad hp0 M v4 h) (cwV 1 X.ht (lw_V q3335 q3337 qs100 q170 q3338) rfl rfl rfl hd_X5_room (cxR (by decide) (by decide))) rfl hl.1 rfl (Nat.le_of_ble_eq_true rfl) dX5_turnsRing_53 ⟨Nat.le_refl _, Nat.le_refl _⟩ (fun H locs hM => ?_)
        refine e_goto X dX5_turnsRing_56 rfl ?_
        exact hjkj6 v9 _ _ _ hM (lv_sub hl [1, 3] rfl) hE
theorem wl_X5_turnsRing_69 {p : Program} {l : Launch} {e : Env} {s : State} {m : MethodId} {args : Array Value} {below : List Frame} {meth : Method} {c : Code} {G : GG} {ad : Nat → Nat} {hp0 : HP} (X : CX p s m args meth c cX5_turnsRing 4 RX5 none G) {N : Nat} {b1 : Int}  {k : RM → Int → Option RM} {out : RM} : ∀ (n : Nat) (M : RM) (x2 : Int) (H : Heap) (locs : List Loc) (ls : Array Slot) (hE : f_X5_turnsRing_L69 N b1 k n M x2 = some out) (hM : RW G dX5 ad hp0 M H locs) (hl : lv_has ls 4 [(0, .ref (ad 40)), (1, vI b1), (2, vI x2)]) (hk : ∀ (M : RM) (x2 : Int) (H : Heap) (locs : List Loc) (ls : Array Slot), RW G dX5 ad hp0 M H locs → lv_has ls 4 [(0, .ref (ad 40)), (1, vI b1), (2, vI x2)] → k M x2 = some out → W p l e (rmD 2) s m args below meth c H locs 0 0 (QR below G dX5 ad hp0 args s none out) (F0 m 116 ls [])), W p l e (rmD 2) s m args below meth c H locs 0 0 (QR below G dX5 ad hp0 args s none out) (F0 m 69 ls []) := by
  intro n
  induction n with
  | zero =>
    intro M x2 H locs ls hE hM hl hk
    unfold f_X5_turnsRing_L69 at hE
    cases hE
  | succ n ih =>
    intro M x2 H locs ls hE hM hl hk
    unfold f_X5_turnsRing_L69 at hE
    refine e_iload_n X hl 2 rfl dX5_turnsRing_69 rfl ?_
    refine e_aload_n X hl 0 rfl dX5_turnsRing_70 rfl ?_
    refine r_getI X hM ck_X5 40 35 rfl rfl (by decide) q3069 rfl dX5_turnsRing_71 ?_
    refine e_icmp_ge X (w32 x2) (w32 (M 40 35)) rfl rfl hE dX5_turnsRing_74 rfl (fun hE => ?_) (fun hE => ?_)
    · exact hk M x2 _ _ _ hM (lv_sub hl [0, 1, 2] rfl) hE
    · refine e_aload_n X hl 0 rfl dX5_turnsRing_77 rfl ?_
      refine e_aload_n X hl 0 rfl dX5_turnsRing_78 rfl ?_
      refine r_getR X hM ck_X5 40 34 rfl rfl (by decide) q3068 rfl dX5_turnsRing_79 ?_
      refine e_bipush X dX5_turnsRing_82 (by decide) ?_
      refine e_aload_n X hl 0 rfl dX5_turnsRing_84 rfl ?_
      refine r_getR X hM ck_X5 40 32 rfl rfl (by decide) q3066 rfl dX5_turnsRing_85 ?_
      refine e_iload_n X hl 2 rfl dX5_turnsRing_88 rfl ?_
      refine r_iald X hM 32 rfl (Nat.le_of_ble_eq_true rfl) hE dX5_turnsRing_89 (fun v12 hE => ?_)
      refine e_imul X dX5_turnsRing_90 ?_
      refine e_aload_n X hl 0 rfl dX5_turnsRing_91 rfl ?_
      refine r_getR X hM ck_X5 40 32 rfl rfl (by decide) q3066 rfl dX5_turnsRing_92 ?_
      refine e_iload_n X hl 2 rfl dX5_turnsRing_95 rfl ?_
      refine e_iconst X dX5_turnsRing_96 ?_
      refine e_iadd X dX5_turnsRing_97 ?_
      refine e_aload_n X hl 0 rfl dX5_turnsRing_98 rfl ?_
      refine r_getI X hM ck_X5 40 35 rfl rfl (by decide) q3069 rfl dX5_turnsRing_99 ?_
      refine e_iremQ X hE dX5_turnsRing_102 (fun v13 hE => ?_)
      refine r_iald X hM 32 rfl (Nat.le_of_ble_eq_true rfl) hE dX5_turnsRing_103 (fun v14 hE => ?_)
      refine e_iadd X dX5_turnsRing_104 ?_
      refine r_iald X hM 34 rfl (Nat.le_of_ble_eq_true rfl) hE dX5_turnsRing_105 (fun v15 hE => ?_)
      refine e_iload_n X hl 1 rfl dX5_turnsRing_106 rfl ?_
      obtain ⟨M16, h, hE⟩ := ob_some hE
      refine r_callV0 X hM 40 rfl ck_X5 (rest := []) (met_X5_goes l G ad hp0 M v15 b1 h) (cwV 2 X.ht (lw_V q3343 q3345 qs102 q170 q3346) rfl rfl rfl hd_X5_goes (cxR (by decide) (by decide))) rfl hl.1 rfl (Nat.le_of_ble_eq_true rfl) dX5_turnsRing_107 ⟨Nat.le_refl _, Nat.le_refl _⟩ (fun H locs hM => ?_)
      refine e_iinc X hl 2 hE (fun v17 => [(2, vI v17), (0, .ref (ad 40)), (1, vI b1)]) rfl dX5_turnsRing_110 (by decide) (fun _ => rfl) (fun v17 hE ls hl => ?_)
      refine e_goto X dX5_turnsRing_113 rfl ?_
      exact ih M16 v17 _ _ _ hE hM (lv_sub hl [1, 2, 0] rfl) hk
theorem wb_X5_turnsRing {p : Program} {l : Launch} {e : Env} {s : State} {m : MethodId} {args : Array Value} {below : List Frame} {meth : Method} {c : Code} {G : GG} {ad : Nat → Nat} {hp0 : HP} (X : CX p s m args meth c cX5_turnsRing 4 RX5 none G) {N : Nat} {M : RM}   {out : RM} (hE : f_X5_turnsRing N M = some out) {H : Heap} {locs : List Loc} {ls : Array Slot} (hM : RW G dX5 ad hp0 M H locs) (hl : lv_has ls 4 [(0, .ref (ad 40))]) : W p l e (rmD 2) s m args below meth c H locs 0 0 (QR below G dX5 ad hp0 args s none out) (F0 m 0 ls []) := by
  unfold f_X5_turnsRing at hE
  refine e_bipush X dX5_turnsRing_0 (by decide) ?_
  refine e_istore_n X hl [(1, vI 99), (0, .ref (ad 40))] dX5_turnsRing_2 rfl (by decide) rfl (fun ls hl => ?_)
  refine e_iconst X dX5_turnsRing_3 ?_
  refine e_istore_n X hl [(2, vI 0), (1, vI 99), (0, .ref (ad 40))] dX5_turnsRing_4 rfl (by decide) rfl (fun ls hl => ?_)
  refine wl_X5_turnsRing_5 X _ 99 0 _ _ _ hE hM (lv_sub hl [2, 1, 0] rfl) (fun v10 v11 H locs ls hM hl hE => ?_)
  refine e_iconst X dX5_turnsRing_67 ?_
  refine e_istore_n X hl [(2, vI 0), (0, .ref (ad 40)), (1, vI v10)] dX5_turnsRing_68 rfl (by decide) rfl (fun ls hl => ?_)
  refine wl_X5_turnsRing_69 X _ M 0 _ _ _ hE hM (lv_sub hl [1, 2, 0] rfl) (fun M18 v19 H locs ls hM hl hE => ?_)
  cases hE
  exact r_vret X hM dX5_turnsRing_116
theorem met_X5_turnsRing (l : Launch) (G : GG) (ad : Nat → Nat) (hp0 : HP) {N : Nat} (M : RM)   {out : RM} (hE : f_X5_turnsRing N M = some out) : MR l yX5_turnsRing (ws_ yX5_turnsRing cX5_turnsRing 4 none) 2 G dX5 ad hp0 [.ref (ad 40)] M none out :=
  MR.of (by decide) (Nat.le_of_ble_eq_true rfl) rfl (fun p e s m below meth c ls X hM hl => wb_X5_turnsRing X hE hM hl)
def f_X5_mend_L28 (N : Nat) (b1 : Int) (b2 : Int) (k : RM → Int → Option (Int × RM)) : Nat → RM → Int → Option (Int × RM)
  | 0, _, _ => none
  | n + 1, M, x4 =>
    if 100 ≤ w32 x4 then (k M x4) else (ob2 (f_X5_isRung N M) fun v4 M5 => if w32 v4 = 0 then (k M5 x4) else (ob (f_X5_turnsRing N M5) fun M6 => jn (x4 + 1) fun v7 => f_X5_mend_L28 N b1 b2 k n M6 v7))
def f_X5_mend_L55 (N : Nat) (b1 : Int) (b2 : Int) (b4 : Int) (k : RM → Int → Option (Int × RM)) : Nat → RM → Int → Option (Int × RM)
  | 0, _, _ => none
  | n + 1, M, x5 =>
    ob (f_X5_many M) fun v10 => if w32 v10 ≤ w32 x5 then (k M x5) else (ob (gA 25 M 14 x5) fun v11 => ob (sA 120 M 13 (((30 * b1) + b2) + x5) (w32 v11)) fun M12 => jn (x5 + 1) fun v13 => f_X5_mend_L55 N b1 b2 b4 k n M12 v13)
def f_X5_mend (N : Nat) (M : RM) (a1 : Int) (a2 : Int) : Option (Int × RM) :=
  ob (f_X5_whyNot M a1 a2) fun v1 => if w32 v1 = 0 then (ob2 (f_X5_tells N M a1 a2) fun v2 M3 => if ¬ w32 v2 = 0 then (f_X5_mend_L28 N a1 a2 (fun (M8 : RM) (v9 : Int) => f_X5_mend_L55 N a1 a2 v9 (fun (M14 : RM) (v15 : Int) => some (v9, M14)) N M8 0) N M3 0) else (some ((-3), M3))) else (some (v1, M))
theorem hd_X5_mend : yX5_mend.cls = RX5 ∧ yX5_mend.cls ≠ "java/lang/invoke/MethodHandle" ∧ yX5_mend.cls ≠ "java/lang/invoke/VarHandle" ∧ (parseMethodDescriptor yX5_mend.desc).map (fun d => d.parameters.length) = some 2 := by decide +kernel
theorem wl_X5_mend_28 {p : Program} {l : Launch} {e : Env} {s : State} {m : MethodId} {args : Array Value} {below : List Frame} {meth : Method} {c : Code} {G : GG} {ad : Nat → Nat} {hp0 : HP} (X : CX p s m args meth c cX5_mend 6 RX5 (some .int) G) {N : Nat} {b1 : Int} {b2 : Int}  {k : RM → Int → Option (Int × RM)} {out : (Int × RM)} : ∀ (n : Nat) (M : RM) (x4 : Int) (H : Heap) (locs : List Loc) (ls : Array Slot) (hE : f_X5_mend_L28 N b1 b2 k n M x4 = some out) (hM : RW G dX5 ad hp0 M H locs) (hl : lv_has ls 6 [(0, .ref (ad 40)), (1, vI b1), (2, vI b2), (4, vI x4)]) (hk : ∀ (M : RM) (x4 : Int) (H : Heap) (locs : List Loc) (ls : Array Slot), RW G dX5 ad hp0 M H locs → lv_has ls 6 [(0, .ref (ad 40)), (1, vI b1), (2, vI b2), (4, vI x4)] → k M x4 = some out → W p l e (rmD 12) s m args below meth c H locs 0 0 (QR below G dX5 ad hp0 args s (some (vI out.1)) out.2) (F0 m 52 ls [])), W p l e (rmD 12) s m args below meth c H locs 0 0 (QR below G dX5 ad hp0 args s (some (vI out.1)) out.2) (F0 m 28 ls []) := by
  intro n
  induction n with
  | zero =>
    intro M x4 H locs ls hE hM hl hk
    unfold f_X5_mend_L28 at hE
    cases hE
  | succ n ih =>
    intro M x4 H locs ls hE hM hl hk
    unfold f_X5_mend_L28 at hE
    refine e_iload X hl 3 rfl dX5_mend_28 ?_
    refine e_bipush X dX5_mend_30 (by decide) ?_
    refine e_icmp_ge X (w32 x4) 100 rfl (by decide) hE dX5_mend_32 rfl (fun hE => ?_) (fun hE => ?_)
    · exact hk M x4 _ _ _ hM (lv_sub hl [0, 1, 2, 3] rfl) hE
    · refine e_aload_n X hl 0 rfl dX5_mend_35 rfl ?_
      obtain ⟨v4, M5, h, hE⟩ := ob2_some hE
      refine r_callV1 X hM 40 rfl ck_X5 (rest := []) (met_X5_isRung l G ad hp0 M h) (cwV 0 X.ht (lw_V q3477 q3479 qs117 q170 q3480) rfl rfl rfl hd_X5_isRung (cxR (by decide) (by decide))) rfl hl.1 rfl (Nat.le_of_ble_eq_true rfl) dX5_mend_36 ⟨Nat.le_refl _, Nat.le_refl _⟩ (fun H locs hM => ?_)
      refine e_if_eq X (w32 v4) rfl hE dX5_mend_39 rfl (fun hE => ?_) (fun hE => ?_)
      · exact hk M5 x4 _ _ _ hM (lv_sub hl [0, 1, 2, 3] rfl) hE
      · refine e_aload_n X hl 0 rfl dX5_mend_42 rfl ?_
        obtain ⟨M6, h, hE⟩ := ob_some hE
        refine r_callV0 X hM 40 rfl ck_X5 (rest := []) (met_X5_turnsRing l G ad hp0 M5 h) (cwV 0 X.ht (lw_V q3501 q3503 qs120 q170 q3504) rfl rfl rfl hd_X5_turnsRing (cxR (by decide) (by decide))) rfl hl.1 rfl (Nat.le_of_ble_eq_true rfl) dX5_mend_43 ⟨Nat.le_refl _, Nat.le_refl _⟩ (fun H locs hM => ?_)
        refine e_iinc X hl 3 hE (fun v7 => [(4, vI v7), (0, .ref (ad 40)), (1, vI b1), (2, vI b2)]) rfl dX5_mend_46 (by decide) (fun _ => rfl) (fun v7 hE ls hl => ?_)
        refine e_goto X dX5_mend_49 rfl ?_
        exact ih M6 v7 _ _ _ hE hM (lv_sub hl [1, 2, 3, 0] rfl) hk
theorem wl_X5_mend_55 {p : Program} {l : Launch} {e : Env} {s : State} {m : MethodId} {args : Array Value} {below : List Frame} {meth : Method} {c : Code} {G : GG} {ad : Nat → Nat} {hp0 : HP} (X : CX p s m args meth c cX5_mend 6 RX5 (some .int) G) {N : Nat} {b1 : Int} {b2 : Int} {b4 : Int}  {k : RM → Int → Option (Int × RM)} {out : (Int × RM)} : ∀ (n : Nat) (M : RM) (x5 : Int) (H : Heap) (locs : List Loc) (ls : Array Slot) (hE : f_X5_mend_L55 N b1 b2 b4 k n M x5 = some out) (hM : RW G dX5 ad hp0 M H locs) (hl : lv_has ls 6 [(0, .ref (ad 40)), (1, vI b1), (2, vI b2), (4, vI b4), (5, vI x5)]) (hk : ∀ (M : RM) (x5 : Int) (H : Heap) (locs : List Loc) (ls : Array Slot), RW G dX5 ad hp0 M H locs → lv_has ls 6 [(0, .ref (ad 40)), (1, vI b1), (2, vI b2), (4, vI b4), (5, vI x5)] → k M x5 = some out → W p l e (rmD 12) s m args below meth c H locs 0 0 (QR below G dX5 ad hp0 args s (some (vI out.1)) out.2) (F0 m 92 ls [])), W p l e (rmD 12) s m args below meth c H locs 0 0 (QR below G dX5 ad hp0 args s (some (vI out.1)) out.2) (F0 m 55 ls []) := by
  intro n
  induction n with
  | zero =>
    intro M x5 H locs ls hE hM hl hk
    unfold f_X5_mend_L55 at hE
    cases hE
  | succ n ih =>
    intro M x5 H locs ls hE hM hl hk
    unfold f_X5_mend_L55 at hE
    refine e_iload X hl 4 rfl dX5_mend_55 ?_
    refine e_aload_n X hl 0 rfl dX5_mend_57 rfl ?_
    obtain ⟨v10, h, hE⟩ := ob_some hE
    refine r_callV1 X hM 40 rfl ck_X5 (rest := [vI x5]) (met_X5_many l G ad hp0 M h) (cwV 0 X.ht (lw_V q3206 q3208 qs77 q170 q3209) rfl rfl rfl hd_X5_many (cxR (by decide) (by decide))) rfl hl.1 rfl (Nat.le_of_ble_eq_true rfl) dX5_mend_58 ⟨Nat.le_refl _, Nat.le_refl _⟩ (fun H locs hM => ?_)
    refine e_icmp_ge X (w32 x5) (w32 v10) rfl rfl hE dX5_mend_61 rfl (fun hE => ?_) (fun hE => ?_)
    · exact hk M x5 _ _ _ hM (lv_sub hl [0, 1, 2, 3, 4] rfl) hE
    · refine e_aload_n X hl 0 rfl dX5_mend_64 rfl ?_
      refine r_getR X hM ck_X5 40 13 rfl rfl (by decide) q3047 rfl dX5_mend_65 ?_
      refine e_bipush X dX5_mend_68 (by decide) ?_
      refine e_iload_n X hl 1 rfl dX5_mend_70 rfl ?_
      refine e_imul X dX5_mend_71 ?_
      refine e_iload_n X hl 2 rfl dX5_mend_72 rfl ?_
      refine e_iadd X dX5_mend_73 ?_
      refine e_iload X hl 4 rfl dX5_mend_74 ?_
      refine e_iadd X dX5_mend_76 ?_
      refine e_aload_n X hl 0 rfl dX5_mend_77 rfl ?_
      refine r_getR X hM ck_X5 40 14 rfl rfl (by decide) q3048 rfl dX5_mend_78 ?_
      refine e_iload X hl 4 rfl dX5_mend_81 ?_
      refine r_iald X hM 14 rfl (Nat.le_of_ble_eq_true rfl) hE dX5_mend_83 (fun v11 hE => ?_)
      refine e_i2l X dX5_mend_84 ?_
      refine r_last X hM 13 rfl (Nat.le_of_ble_eq_true rfl) hE dX5_mend_85 (fun M12 hE H locs hM => ?_)
      refine e_iinc X hl 4 hE (fun v13 => [(5, vI v13), (0, .ref (ad 40)), (1, vI b1), (2, vI b2), (4, vI b4)]) rfl dX5_mend_86 (by decide) (fun _ => rfl) (fun v13 hE ls hl => ?_)
      refine e_goto X dX5_mend_89 rfl ?_
      exact ih M12 v13 _ _ _ hE hM (lv_sub hl [1, 2, 3, 4, 0] rfl) hk
theorem wb_X5_mend {p : Program} {l : Launch} {e : Env} {s : State} {m : MethodId} {args : Array Value} {below : List Frame} {meth : Method} {c : Code} {G : GG} {ad : Nat → Nat} {hp0 : HP} (X : CX p s m args meth c cX5_mend 6 RX5 (some .int) G) {N : Nat} {M : RM} {a1 : Int} {a2 : Int}   {out : (Int × RM)} (hE : f_X5_mend N M a1 a2 = some out) {H : Heap} {locs : List Loc} {ls : Array Slot} (hM : RW G dX5 ad hp0 M H locs) (hl : lv_has ls 6 [(0, .ref (ad 40)), (1, vI a1), (2, vI a2)]) : W p l e (rmD 12) s m args below meth c H locs 0 0 (QR below G dX5 ad hp0 args s (some (vI out.1)) out.2) (F0 m 0 ls []) := by
  unfold f_X5_mend at hE
  refine e_aload_n X hl 0 rfl dX5_mend_0 rfl ?_
  refine e_iload_n X hl 1 rfl dX5_mend_1 rfl ?_
  refine e_iload_n X hl 2 rfl dX5_mend_2 rfl ?_
  obtain ⟨v1, h, hE⟩ := ob_some hE
  refine r_callV1 X hM 40 rfl ck_X5 (rest := []) (met_X5_whyNot l G ad hp0 M a1 a2 h) (cwV 2 X.ht (lw_V q3465 q3467 qs115 q170 q3468) rfl rfl rfl hd_X5_whyNot (cxR (by decide) (by decide))) rfl hl.1 rfl (Nat.le_of_ble_eq_true rfl) dX5_mend_3 ⟨Nat.le_refl _, Nat.le_refl _⟩ (fun H locs hM => ?_)
  refine e_istore_n X hl [(3, vI v1), (0, .ref (ad 40)), (1, vI a1), (2, vI a2)] dX5_mend_6 rfl (by decide) rfl (fun ls hl => ?_)
  refine e_iload_n X hl 0 rfl dX5_mend_7 rfl ?_
  refine e_if_eq X (w32 v1) rfl hE dX5_mend_8 rfl (fun hE => ?_) (fun hE => ?_)
  · refine e_aload_n X hl 1 rfl dX5_mend_13 rfl ?_
    refine e_iload_n X hl 2 rfl dX5_mend_14 rfl ?_
    refine e_iload_n X hl 3 rfl dX5_mend_15 rfl ?_
    obtain ⟨v2, M3, h, hE⟩ := ob2_some hE
    refine r_callV1 X hM 40 rfl ck_X5 (rest := []) (met_X5_tells l G ad hp0 M a1 a2 h) (cwV 2 X.ht (lw_V q3473 q3475 qs116 q170 q3476) rfl rfl rfl hd_X5_tells (cxR (by decide) (by decide))) rfl hl.1 rfl (Nat.le_of_ble_eq_true rfl) dX5_mend_16 ⟨Nat.le_refl _, Nat.le_refl _⟩ (fun H locs hM => ?_)
    refine e_if_ne X (w32 v2) rfl hE dX5_mend_19 rfl (fun hE => ?_) (fun hE => ?_)
    · refine e_iconst X dX5_mend_25 ?_
      refine e_istore X hl [(4, vI 0), (3, vI v1), (0, .ref (ad 40)), (1, vI a1), (2, vI a2)] dX5_mend_26 (by decide) rfl (fun ls hl => ?_)
      refine wl_X5_mend_28 X _ M3 0 _ _ _ hE hM (lv_sub hl [2, 3, 4, 0] rfl) (fun M8 v9 H locs ls hM hl hE => ?_)
      refine e_iconst X dX5_mend_52 ?_
      refine e_istore X hl [(5, vI 0), (0, .ref (ad 40)), (1, vI a1), (2, vI a2), (4, vI v9)] dX5_mend_53 (by decide) rfl (fun ls hl => ?_)
      refine wl_X5_mend_55 X _ M8 0 _ _ _ hE hM (lv_sub hl [1, 2, 3, 4, 0] rfl) (fun M14 v15 H locs ls hM hl hE => ?_)
      refine e_iload X hl 3 rfl dX5_mend_92 ?_
      cases hE
      exact r_zret X hM rfl dX5_mend_94
    · refine e_bipush X dX5_mend_22 (by decide) ?_
      cases hE
      exact r_zret (x := (-3)) X hM rfl dX5_mend_24
  · refine e_iload_n X hl 0 rfl dX5_mend_11 rfl ?_
    cases hE
    exact r_zret X hM rfl dX5_mend_12
theorem met_X5_mend (l : Launch) (G : GG) (ad : Nat → Nat) (hp0 : HP) {N : Nat} (M : RM) (a1 : Int) (a2 : Int)  {out : (Int × RM)} (hE : f_X5_mend N M a1 a2 = some out) : MR l yX5_mend (ws_ yX5_mend cX5_mend 6 (some .int)) 12 G dX5 ad hp0 [.ref (ad 40), vI a1, vI a2] M (some (vI out.1)) out.2 :=
  MR.of (by decide) (Nat.le_of_ble_eq_true rfl) rfl (fun p e s m below meth c ls X hM hl => wb_X5_mend X hE hM hl)
def f_X5_leastRoad_L2 (N : Nat) (M0 : RM) (b1 : Int) (k : Int → Option Int) : Nat → Int → Option Int
  | 0, _ => none
  | n + 1, x2 =>
    ob (f_X5_many M0) fun v1 => if w32 v1 ≤ w32 x2 then (k x2) else (ob (gA 25 M0 14 x2) fun v2 => if w32 v2 ≤ 0 then (jn (x2 + 1) fun v3 => f_X5_leastRoad_L2 N M0 b1 k n v3) else (if w32 b1 < 0 then (some x2) else (ob (f_X5_from M0 x2) fun v4 => if ¬ w32 v4 = w32 b1 then (jn (x2 + 1) fun v5 => f_X5_leastRoad_L2 N M0 b1 k n v5) else (some x2))))
def f_X5_leastRoad (N : Nat) (M0 : RM) (a1 : Int) : Option Int :=
  f_X5_leastRoad_L2 N M0 a1 (fun (v6 : Int) => some (-1)) N 0
theorem hd_X5_leastRoad : yX5_leastRoad.cls = RX5 ∧ yX5_leastRoad.cls ≠ "java/lang/invoke/MethodHandle" ∧ yX5_leastRoad.cls ≠ "java/lang/invoke/VarHandle" ∧ (parseMethodDescriptor yX5_leastRoad.desc).map (fun d => d.parameters.length) = some 1 := by decide +kernel
theorem wl_X5_leastRoad_2 {p : Program} {l : Launch} {e : Env} {s : State} {m : MethodId} {args : Array Value} {below : List Frame} {meth : Method} {c : Code} {G : GG} {ad : Nat → Nat} {hp0 : HP} {M0 : RM} (X : CX p s m args meth c cX5_leastRoad 3 RX5 (some .int) G) {N : Nat} {b1 : Int}  {k : Int → Option Int} {out : Int} : ∀ (n : Nat) (x2 : Int) (H : Heap) (locs : List Loc) (ls : Array Slot) (hE : f_X5_leastRoad_L2 N M0 b1 k n x2 = some out) (hM : RW G dX5 ad hp0 M0 H locs) (hl : lv_has ls 3 [(0, .ref (ad 40)), (1, vI b1), (2, vI x2)]) (hk : ∀ (x2 : Int) (H : Heap) (locs : List Loc) (ls : Array Slot), RW G dX5 ad hp0 M0 H locs → lv_has ls 3 [(0, .ref (ad 40)), (1, vI b1), (2, vI x2)] → k x2 = some out → W p l e (rmD 1) s m args below meth c H locs 0 0 (QR below G dX5 ad hp0 args s (some (vI out)) M0) (F0 m 40 ls [])), W p l e (rmD 1) s m args below meth c H locs 0 0 (QR below G dX5 ad hp0 args s (some (vI out)) M0) (F0 m 2 ls []) := by
  intro n
  induction n with
  | zero =>
    intro x2 H locs ls hE hM hl hk
    unfold f_X5_leastRoad_L2 at hE
    cases hE
  | succ n ih =>
    intro x2 H locs ls hE hM hl hk
    unfold f_X5_leastRoad_L2 at hE
    refine e_iload_n X hl 2 rfl dX5_leastRoad_2 rfl ?_
    refine e_aload_n X hl 0 rfl dX5_leastRoad_3 rfl ?_
    obtain ⟨v1, h, hE⟩ := ob_some hE
    refine r_callV1 X hM 40 rfl ck_X5 (rest := [vI x2]) (met_X5_many l G ad hp0 M0 h) (cwV 0 X.ht (lw_V q3206 q3208 qs77 q170 q3209) rfl rfl rfl hd_X5_many (cxR (by decide) (by decide))) rfl hl.1 rfl (Nat.le_of_ble_eq_true rfl) dX5_leastRoad_4 ⟨Nat.le_refl _, Nat.le_refl _⟩ (fun H locs hM => ?_)
    refine e_icmp_ge X (w32 x2) (w32 v1) rfl rfl hE dX5_leastRoad_7 rfl (fun hE => ?_) (fun hE => ?_)
    · exact hk x2 _ _ _ hM (lv_sub hl [0, 1, 2] rfl) hE
    · refine e_aload_n X hl 0 rfl dX5_leastRoad_10 rfl ?_
      refine r_getR X hM ck_X5 40 14 rfl rfl (by decide) q3048 rfl dX5_leastRoad_11 ?_
      refine e_iload_n X hl 2 rfl dX5_leastRoad_14 rfl ?_
      refine r_iald X hM 14 rfl (Nat.le_of_ble_eq_true rfl) hE dX5_leastRoad_15 (fun v2 hE => ?_)
      refine e_if_le X (w32 v2) rfl hE dX5_leastRoad_16 rfl (fun hE => ?_) (fun hE => ?_)
      · refine e_iinc X hl 2 hE (fun v3 => [(2, vI v3), (0, .ref (ad 40)), (1, vI b1)]) rfl dX5_leastRoad_34 (by decide) (fun _ => rfl) (fun v3 hE ls hl => ?_)
        refine e_goto X dX5_leastRoad_37 rfl ?_
        exact ih v3 _ _ _ hE hM (lv_sub hl [1, 2, 0] rfl) hk
      · refine e_iload_n X hl 1 rfl dX5_leastRoad_19 rfl ?_
        refine e_if_lt X (w32 b1) rfl hE dX5_leastRoad_20 rfl (fun hE => ?_) (fun hE => ?_)
        · refine e_iload_n X hl 2 rfl dX5_leastRoad_32 rfl ?_
          cases hE
          exact r_zret X hM rfl dX5_leastRoad_33
        · refine e_aload_n X hl 0 rfl dX5_leastRoad_23 rfl ?_
          refine e_iload_n X hl 2 rfl dX5_leastRoad_24 rfl ?_
          obtain ⟨v4, h, hE⟩ := ob_some hE
          refine r_callV1 X hM 40 rfl ck_X5 (rest := []) (met_X5_from l G ad hp0 M0 x2 h) (cwV 1 X.ht (lw_V q3222 q3224 qs80 q170 q3225) rfl rfl rfl hd_X5_from (cxR (by decide) (by decide))) rfl hl.1 rfl (Nat.le_of_ble_eq_true rfl) dX5_leastRoad_25 ⟨Nat.le_refl _, Nat.le_refl _⟩ (fun H locs hM => ?_)
          refine e_iload_n X hl 1 rfl dX5_leastRoad_28 rfl ?_
          refine e_icmp_ne X (w32 v4) (w32 b1) rfl rfl hE dX5_leastRoad_29 rfl (fun hE => ?_) (fun hE => ?_)
          · refine e_iinc X hl 2 hE (fun v5 => [(2, vI v5), (0, .ref (ad 40)), (1, vI b1)]) rfl dX5_leastRoad_34 (by decide) (fun _ => rfl) (fun v5 hE ls hl => ?_)
            refine e_goto X dX5_leastRoad_37 rfl ?_
            exact ih v5 _ _ _ hE hM (lv_sub hl [1, 2, 0] rfl) hk
          · refine e_iload_n X hl 2 rfl dX5_leastRoad_32 rfl ?_
            cases hE
            exact r_zret X hM rfl dX5_leastRoad_33
theorem wb_X5_leastRoad {p : Program} {l : Launch} {e : Env} {s : State} {m : MethodId} {args : Array Value} {below : List Frame} {meth : Method} {c : Code} {G : GG} {ad : Nat → Nat} {hp0 : HP} {M0 : RM} (X : CX p s m args meth c cX5_leastRoad 3 RX5 (some .int) G) {N : Nat} {a1 : Int}   {out : Int} (hE : f_X5_leastRoad N M0 a1 = some out) {H : Heap} {locs : List Loc} {ls : Array Slot} (hM : RW G dX5 ad hp0 M0 H locs) (hl : lv_has ls 3 [(0, .ref (ad 40)), (1, vI a1)]) : W p l e (rmD 1) s m args below meth c H locs 0 0 (QR below G dX5 ad hp0 args s (some (vI out)) M0) (F0 m 0 ls []) := by
  unfold f_X5_leastRoad at hE
  refine e_iconst X dX5_leastRoad_0 ?_
  refine e_istore_n X hl [(2, vI 0), (0, .ref (ad 40)), (1, vI a1)] dX5_leastRoad_1 rfl (by decide) rfl (fun ls hl => ?_)
  refine wl_X5_leastRoad_2 X _ 0 _ _ _ hE hM (lv_sub hl [1, 2, 0] rfl) (fun v6 H locs ls hM hl hE => ?_)
  refine e_iconst X dX5_leastRoad_40 ?_
  cases hE
  exact r_zret (x := (-1)) X hM rfl dX5_leastRoad_41
theorem met_X5_leastRoad (l : Launch) (G : GG) (ad : Nat → Nat) (hp0 : HP) {N : Nat} (M0 : RM) (a1 : Int)  {out : Int} (hE : f_X5_leastRoad N M0 a1 = some out) : MR l yX5_leastRoad (ws_ yX5_leastRoad cX5_leastRoad 3 (some .int)) 1 G dX5 ad hp0 [.ref (ad 40), vI a1] M0 (some (vI out)) M0 :=
  MR.of (by decide) (Nat.le_of_ble_eq_true rfl) rfl (fun p e s m below meth c ls X hM hl => wb_X5_leastRoad X hE hM hl)
def f_X5_parts_2_L24 (N : Nat) (b1 : Int) (b2 : Int) (b3 : Int) (k : RM → Int → Int → Int → Option RM) : Nat → RM → Int → Int → Int → Option RM
  | 0, _, _, _, _ => none
  | n + 1, M, x4, x5, x6 =>
    if ¬ w32 x6 = 0 then (k M x4 x5 x6) else (ob (sA 8 M 32 x4 x5) fun M3 => ob (f_X5_leastRoad N M3 x5) fun v4 => ob (sA 480 M3 39 ((b3 + 4) + x4) v4) fun M5 => jn (x4 + 1) fun v6 => ob (f_X5_to M5 v4) fun v7 => ob (f_X5_isIn N M5 v7 v6) fun v8 => jn (fun (v10 : Int) => f_X5_parts_2_L24 N b1 b2 b3 k n M5 v6 v7 v10) fun kj9 => if ¬ w32 v8 = 0 then (kj9 1) else (if w32 b2 = 0 then (kj9 0) else (ob (gA 8 M5 15 v7) fun v11 => if 0 ≤ w32 v11 then (kj9 0) else (kj9 1))))
def f_X5_parts_2_L108 (N : Nat) (M : RM) (b1 : Int) (b3 : Int) (b4 : Int) (b5 : Int) (k : Int → Option RM) : Nat → Int → Option RM
  | 0, _ => none
  | n + 1, x7 =>
    if w32 b4 ≤ w32 x7 then (k x7) else (ob (gA 8 M 32 x7) fun v16 => if w32 v16 = w32 b5 then (k x7) else (jn (x7 + 1) fun v17 => f_X5_parts_2_L108 N M b1 b3 b4 b5 k n v17))
def f_X5_parts_2_L205 (N : Nat) (M : RM) (b1 : Int) (b3 : Int) (b4 : Int) (b5 : Int) (b7 : Int) (b8 : Int) (k : Int → Int → Option RM) : Nat → Int → Int → Option RM
  | 0, _, _ => none
  | n + 1, x9, x10 =>
    if w32 b4 ≤ w32 x10 then (k x9 x10) else (ob (gA 480 M 39 ((b3 + 4) + x10)) fun v25 => ob (gA 25 M 14 v25) fun v26 => jn (fun (v28 : Int) => jn (x10 + 1) fun v29 => f_X5_parts_2_L205 N M b1 b3 b4 b5 b7 b8 k n v28 v29) fun kj27 => if w32 x9 ≤ w32 v26 then (kj27 x9) else (ob (gA 480 M 39 ((b3 + 4) + x10)) fun v30 => ob (gA 25 M 14 v30) fun v31 => kj27 v31))
def f_X5_parts_2_L266 (N : Nat) (b1 : Int) (b3 : Int) (b4 : Int) (b5 : Int) (b7 : Int) (b8 : Int) (b9 : Int) (k : RM → Int → Option RM) : Nat → RM → Int → Option RM
  | 0, _, _ => none
  | n + 1, M, x10 =>
    if w32 b4 ≤ w32 x10 then (k M x10) else (ob (gA 480 M 39 ((b3 + 4) + x10)) fun v34 => ob (gA 25 M 14 v34) fun v35 => ob (sA 25 M 14 v34 (v35 - b9)) fun M36 => jn (x10 + 1) fun v37 => f_X5_parts_2_L266 N b1 b3 b4 b5 b7 b8 b9 k n M36 v37)
def f_X5_parts_2_L332 (N : Nat) (b3 : Int) (b4 : Int) (b7 : Int) (b8 : Int) (b9 : Int) (k : RM → Int → Option RM) : Nat → RM → Int → Option RM
  | 0, _, _ => none
  | n + 1, M, x10 =>
    if w32 b4 ≤ w32 x10 then (k M x10) else (ob (gA 480 M 39 ((b3 + 4) + x10)) fun v42 => ob (sA 480 M 39 (((b3 + 4) + x10) - b7) v42) fun M43 => jn (x10 + 1) fun v44 => f_X5_parts_2_L332 N b3 b4 b7 b8 b9 k n M43 v44)
def f_X5_parts_2 (N : Nat) (M : RM) (a1 : Int) (a2 : Int) : Option RM :=
  jn (up2 M 40 38 ((M 40 38) + 1)) fun M1 => jn (12 * (M 40 38)) fun v2 => f_X5_parts_2_L24 N a1 a2 v2 (fun (M12 : RM) (v13 : Int) (v14 : Int) (v15 : Int) => f_X5_parts_2_L108 N M12 a1 v2 v13 v14 (fun (v18 : Int) => jn (fun (v20 : Int) => jn (fun (v22 : Int) => jn (fun (v24 : Int) => f_X5_parts_2_L205 N M12 a1 v2 v13 v14 v22 v20 (fun (v32 : Int) (v33 : Int) => f_X5_parts_2_L266 N a1 v2 v13 v14 v22 v20 v32 (fun (M38 : RM) (v39 : Int) => jn (fun (M41 : RM) => f_X5_parts_2_L332 N v2 v13 v22 v20 v32 (fun (M45 : RM) (v46 : Int) => ob (sA 480 M45 39 v2 v32) fun M47 => ob (sA 480 M47 39 (v2 + 1) (v13 - v22)) fun M48 => jn (fun (v50 : Int) => ob (sA 480 M48 39 (v2 + 2) v50) fun M51 => ob (gA 8 M51 32 v22) fun v52 => ob (sA 480 M51 39 (v2 + 3) v52) fun M53 => some M53) fun kj49 => if w32 v20 = 0 then (kj49 0) else (kj49 1)) N M41 v22) fun kj40 => if ¬ w32 v20 = 0 then (kj40 M38) else (ob (gA 8 M38 15 a1) fun v54 => ob (sA 8 M38 15 a1 (v54 - v32)) fun M55 => ob (gA 8 M55 15 v14) fun v56 => ob (sA 8 M55 15 v14 (v56 + v32)) fun M57 => kj40 M57)) N M12 v22) N v24 v22) fun kj23 => if w32 v20 = 0 then (ob (gA 8 M12 15 a1) fun v58 => ob (gA 8 M12 15 v14) fun v59 => if w32 (-v59) ≤ w32 v58 then (ob (gA 8 M12 15 v14) fun v60 => kj23 (-v60)) else (ob (gA 8 M12 15 a1) fun v61 => kj23 v61)) else (kj23 99)) fun kj21 => if ¬ w32 v20 = 0 then (kj21 v18) else (kj21 0)) fun kj19 => if w32 v13 ≤ w32 v18 then (kj19 0) else (kj19 1)) N 0) N M1 0 a1 0
theorem hd_X5_parts_2 : yX5_parts_2.cls = RX5 ∧ yX5_parts_2.cls ≠ "java/lang/invoke/MethodHandle" ∧ yX5_parts_2.cls ≠ "java/lang/invoke/VarHandle" ∧ (parseMethodDescriptor yX5_parts_2.desc).map (fun d => d.parameters.length) = some 2 := by decide +kernel
theorem wl_X5_parts_2_24 {p : Program} {l : Launch} {e : Env} {s : State} {m : MethodId} {args : Array Value} {below : List Frame} {meth : Method} {c : Code} {G : GG} {ad : Nat → Nat} {hp0 : HP} (X : CX p s m args meth c cX5_parts_2 11 RX5 none G) {N : Nat} {b1 : Int} {b2 : Int} {b3 : Int}  {k : RM → Int → Int → Int → Option RM} {out : RM} : ∀ (n : Nat) (M : RM) (x4 : Int) (x5 : Int) (x6 : Int) (H : Heap) (locs : List Loc) (ls : Array Slot) (hE : f_X5_parts_2_L24 N b1 b2 b3 k n M x4 x5 x6 = some out) (hM : RW G dX5 ad hp0 M H locs) (hl : lv_has ls 11 [(0, .ref (ad 40)), (1, vI b1), (2, vI b2), (3, vI b3), (4, vI x4), (5, vI x5), (6, vI x6)]) (hk : ∀ (M : RM) (x4 : Int) (x5 : Int) (x6 : Int) (H : Heap) (locs : List Loc) (ls : Array Slot), RW G dX5 ad hp0 M H locs → lv_has ls 11 [(0, .ref (ad 40)), (1, vI b1), (2, vI b2), (3, vI b3), (4, vI x4), (5, vI x5), (6, vI x6)] → k M x4 x5 x6 = some out → W p l e (rmD 2) s m args below meth c H locs 0 0 (QR below G dX5 ad hp0 args s none out) (F0 m 105 ls [])), W p l e (rmD 2) s m args below meth c H locs 0 0 (QR below G dX5 ad hp0 args s none out) (F0 m 24 ls []) := by
  intro n
  induction n with
  | zero =>
    intro M x4 x5 x6 H locs ls hE hM hl hk
    unfold f_X5_parts_2_L24 at hE
    cases hE
  | succ n ih =>
    intro M x4 x5 x6 H locs ls hE hM hl hk
    unfold f_X5_parts_2_L24 at hE
    refine e_iload X hl 6 rfl dX5_parts_2_24 ?_
    refine e_if_ne X (w32 x6) rfl hE dX5_parts_2_26 rfl (fun hE => ?_) (fun hE => ?_)
    · exact hk M x4 x5 x6 _ _ _ hM (lv_sub hl [0, 1, 2, 3, 4, 5, 6] rfl) hE
    · refine e_aload_n X hl 0 rfl dX5_parts_2_29 rfl ?_
      refine r_getR X hM ck_X5 40 32 rfl rfl (by decide) q3066 rfl dX5_parts_2_30 ?_
      refine e_iload X hl 4 rfl dX5_parts_2_33 ?_
      refine e_iload X hl 5 rfl dX5_parts_2_35 ?_
      refine r_iast X hM 32 rfl (Nat.le_of_ble_eq_true rfl) hE dX5_parts_2_37 (fun M3 hE H locs hM => ?_)
      refine e_aload_n X hl 0 rfl dX5_parts_2_38 rfl ?_
      refine e_iload X hl 5 rfl dX5_parts_2_39 ?_
      obtain ⟨v4, h, hE⟩ := ob_some hE
      refine r_callV1 X hM 40 rfl ck_X5 (rest := []) (met_X5_leastRoad l G ad hp0 M3 x5 h) (cwV 1 X.ht (lw_V q3513 q3515 qs122 q170 q3516) rfl rfl rfl hd_X5_leastRoad (cxR (by decide) (by decide))) rfl hl.1 rfl (Nat.le_of_ble_eq_true rfl) dX5_parts_2_41 ⟨Nat.le_refl _, Nat.le_refl _⟩ (fun H locs hM => ?_)
      refine e_istore X hl [(7, vI v4), (0, .ref (ad 40)), (1, vI b1), (2, vI b2), (3, vI b3), (4, vI x4), (5, vI x5), (6, vI x6)] dX5_parts_2_44 (by decide) rfl (fun ls hl => ?_)
      refine e_aload_n X hl 1 rfl dX5_parts_2_46 rfl ?_
      refine r_getR X hM ck_X5 40 39 rfl rfl (by decide) q3073 rfl dX5_parts_2_47 ?_
      refine e_iload_n X hl 4 rfl dX5_parts_2_50 rfl ?_
      refine e_iconst X dX5_parts_2_51 ?_
      refine e_iadd X dX5_parts_2_52 ?_
      refine e_iload X hl 5 rfl dX5_parts_2_53 ?_
      refine e_iadd X dX5_parts_2_55 ?_
      refine e_iload X hl 0 rfl dX5_parts_2_56 ?_
      refine r_iast X hM 39 rfl (Nat.le_of_ble_eq_true rfl) hE dX5_parts_2_58 (fun M5 hE H locs hM => ?_)
      refine e_iinc X hl 5 hE (fun v6 => [(4, vI v6), (7, vI v4), (0, .ref (ad 40)), (1, vI b1), (2, vI b2), (3, vI b3), (5, vI x5), (6, vI x6)]) rfl dX5_parts_2_59 (by decide) (fun _ => rfl) (fun v6 hE ls hl => ?_)
      refine e_aload_n X hl 2 rfl dX5_parts_2_62 rfl ?_
      refine e_iload X hl 1 rfl dX5_parts_2_63 ?_
      obtain ⟨v7, h, hE⟩ := ob_some hE
      refine r_callV1 X hM 40 rfl ck_X5 (rest := []) (met_X5_to l G ad hp0 M5 v4 h) (cwV 1 X.ht (lw_V q3226 q3228 qs81 q170 q3229) rfl rfl rfl hd_X5_to (cxR (by decide) (by decide))) rfl hl.1 rfl (Nat.le_of_ble_eq_true rfl) dX5_parts_2_65 ⟨Nat.le_refl _, Nat.le_refl _⟩ (fun H locs hM => ?_)
      refine e_istore X hl [(5, vI v7), (4, vI v6), (7, vI v4), (0, .ref (ad 40)), (1, vI b1), (2, vI b2), (3, vI b3), (6, vI x6)] dX5_parts_2_68 (by decide) rfl (fun ls hl => ?_)
      refine e_aload_n X hl 3 rfl dX5_parts_2_70 rfl ?_
      refine e_iload X hl 0 rfl dX5_parts_2_71 ?_
      refine e_iload X hl 1 rfl dX5_parts_2_73 ?_
      obtain ⟨v8, h, hE⟩ := ob_some hE
      refine r_callV1 X hM 40 rfl ck_X5 (rest := []) (met_X5_isIn l G ad hp0 M5 v7 v6 h) (cwV 2 X.ht (lw_V q3485 q3487 qs119 q170 q3488) rfl rfl rfl hd_X5_isIn (cxR (by decide) (by decide))) rfl hl.1 rfl (Nat.le_of_ble_eq_true rfl) dX5_parts_2_75 ⟨Nat.le_refl _, Nat.le_refl _⟩ (fun H locs hM => ?_)
      obtain ⟨kj9, hkj9, hE⟩ := jn_ex hE
      have hjkj9 : ∀ (v10 : Int) (H : Heap) (locs : List Loc) (ls : Array Slot), RW G dX5 ad hp0 M5 H locs → lv_has ls 11 [(0, .ref (ad 40)), (1, vI b1), (2, vI b2), (3, vI b3), (4, vI v6), (5, vI v7)] → kj9 v10 = some out → W p l e (rmD 2) s m args below meth c H locs 0 0 (QR below G dX5 ad hp0 args s none out) (F0 m 100 ls [vI v10]) := by
        intro v10 H locs ls hM hl hE
        subst hkj9
        refine e_istore X hl [(6, vI v10), (0, .ref (ad 40)), (1, vI b1), (2, vI b2), (3, vI b3), (4, vI v6), (5, vI v7)] dX5_parts_2_100 (by decide) rfl (fun ls hl => ?_)
        refine e_goto X dX5_parts_2_102 rfl ?_
        exact ih M5 v6 v7 v10 _ _ _ hE hM (lv_sub hl [1, 2, 3, 4, 5, 6, 0] rfl) hk
      refine e_if_ne X (w32 v8) rfl hE dX5_parts_2_78 rfl (fun hE => ?_) (fun hE => ?_)
      · refine e_iconst X dX5_parts_2_95 ?_
        refine e_goto X dX5_parts_2_96 rfl ?_
        exact hjkj9 1 _ _ _ hM (lv_sub hl [3, 4, 5, 6, 1, 0] rfl) hE
      · refine e_iload_n X hl 5 rfl dX5_parts_2_81 rfl ?_
        refine e_if_eq X (w32 b2) rfl hE dX5_parts_2_82 rfl (fun hE => ?_) (fun hE => ?_)
        · refine e_iconst X dX5_parts_2_99 ?_
          exact hjkj9 0 _ _ _ hM (lv_sub hl [3, 4, 5, 6, 1, 0] rfl) hE
        · refine e_aload_n X hl 3 rfl dX5_parts_2_85 rfl ?_
          refine r_getR X hM ck_X5 40 15 rfl rfl (by decide) q3049 rfl dX5_parts_2_86 ?_
          refine e_iload X hl 0 rfl dX5_parts_2_89 ?_
          refine r_iald X hM 15 rfl (Nat.le_of_ble_eq_true rfl) hE dX5_parts_2_91 (fun v11 hE => ?_)
          refine e_if_ge X (w32 v11) rfl hE dX5_parts_2_92 rfl (fun hE => ?_) (fun hE => ?_)
          · refine e_iconst X dX5_parts_2_99 ?_
            exact hjkj9 0 _ _ _ hM (lv_sub hl [3, 4, 5, 6, 1, 0] rfl) hE
          · refine e_iconst X dX5_parts_2_95 ?_
            refine e_goto X dX5_parts_2_96 rfl ?_
            exact hjkj9 1 _ _ _ hM (lv_sub hl [3, 4, 5, 6, 1, 0] rfl) hE
theorem wl_X5_parts_2_108 {p : Program} {l : Launch} {e : Env} {s : State} {m : MethodId} {args : Array Value} {below : List Frame} {meth : Method} {c : Code} {G : GG} {ad : Nat → Nat} {hp0 : HP} (X : CX p s m args meth c cX5_parts_2 11 RX5 none G) {N : Nat} {M : RM} {b1 : Int} {b3 : Int} {b4 : Int} {b5 : Int}  {k : Int → Option RM} {out : RM} : ∀ (n : Nat) (x7 : Int) (H : Heap) (locs : List Loc) (ls : Array Slot) (hE : f_X5_parts_2_L108 N M b1 b3 b4 b5 k n x7 = some out) (hM : RW G dX5 ad hp0 M H locs) (hl : lv_has ls 11 [(0, .ref (ad 40)), (1, vI b1), (3, vI b3), (4, vI b4), (5, vI b5), (7, vI x7)]) (hk : ∀ (x7 : Int) (H : Heap) (locs : List Loc) (ls : Array Slot), RW G dX5 ad hp0 M H locs → lv_has ls 11 [(0, .ref (ad 40)), (1, vI b1), (3, vI b3), (4, vI b4), (5, vI b5), (7, vI x7)] → k x7 = some out → W p l e (rmD 2) s m args below meth c H locs 0 0 (QR below G dX5 ad hp0 args s none out) (F0 m 133 ls [])), W p l e (rmD 2) s m args below meth c H locs 0 0 (QR below G dX5 ad hp0 args s none out) (F0 m 108 ls []) := by
  intro n
  induction n with
  | zero =>
    intro x7 H locs ls hE hM hl hk
    unfold f_X5_parts_2_L108 at hE
    cases hE
  | succ n ih =>
    intro x7 H locs ls hE hM hl hk
    unfold f_X5_parts_2_L108 at hE
    refine e_iload X hl 5 rfl dX5_parts_2_108 ?_
    refine e_iload X hl 3 rfl dX5_parts_2_110 ?_
    refine e_icmp_ge X (w32 x7) (w32 b4) rfl rfl hE dX5_parts_2_112 rfl (fun hE => ?_) (fun hE => ?_)
    · exact hk x7 _ _ _ hM (lv_sub hl [0, 1, 2, 3, 4, 5] rfl) hE
    · refine e_aload_n X hl 0 rfl dX5_parts_2_115 rfl ?_
      refine r_getR X hM ck_X5 40 32 rfl rfl (by decide) q3066 rfl dX5_parts_2_116 ?_
      refine e_iload X hl 5 rfl dX5_parts_2_119 ?_
      refine r_iald X hM 32 rfl (Nat.le_of_ble_eq_true rfl) hE dX5_parts_2_121 (fun v16 hE => ?_)
      refine e_iload X hl 4 rfl dX5_parts_2_122 ?_
      refine e_icmp_eq X (w32 v16) (w32 b5) rfl rfl hE dX5_parts_2_124 rfl (fun hE => ?_) (fun hE => ?_)
      · exact hk x7 _ _ _ hM (lv_sub hl [0, 1, 2, 3, 4, 5] rfl) hE
      · refine e_iinc X hl 5 hE (fun v17 => [(7, vI v17), (0, .ref (ad 40)), (1, vI b1), (3, vI b3), (4, vI b4), (5, vI b5)]) rfl dX5_parts_2_127 (by decide) (fun _ => rfl) (fun v17 hE ls hl => ?_)
        refine e_goto X dX5_parts_2_130 rfl ?_
        exact ih v17 _ _ _ hE hM (lv_sub hl [1, 2, 3, 4, 5, 0] rfl) hk
theorem wl_X5_parts_2_205 {p : Program} {l : Launch} {e : Env} {s : State} {m : MethodId} {args : Array Value} {below : List Frame} {meth : Method} {c : Code} {G : GG} {ad : Nat → Nat} {hp0 : HP} (X : CX p s m args meth c cX5_parts_2 11 RX5 none G) {N : Nat} {M : RM} {b1 : Int} {b3 : Int} {b4 : Int} {b5 : Int} {b7 : Int} {b8 : Int}  {k : Int → Int → Option RM} {out : RM} : ∀ (n : Nat) (x9 : Int) (x10 : Int) (H : Heap) (locs : List Loc) (ls : Array Slot) (hE : f_X5_parts_2_L205 N M b1 b3 b4 b5 b7 b8 k n x9 x10 = some out) (hM : RW G dX5 ad hp0 M H locs) (hl : lv_has ls 11 [(0, .ref (ad 40)), (1, vI b1), (3, vI b3), (4, vI b4), (5, vI b5), (7, vI b7), (8, vI b8), (9, vI x9), (10, vI x10)]) (hk : ∀ (x9 : Int) (x10 : Int) (H : Heap) (locs : List Loc) (ls : Array Slot), RW G dX5 ad hp0 M H locs → lv_has ls 11 [(0, .ref (ad 40)), (1, vI b1), (3, vI b3), (4, vI b4), (5, vI b5), (7, vI b7), (8, vI b8), (9, vI x9), (10, vI x10)] → k x9 x10 = some out → W p l e (rmD 2) s m args below meth c H locs 0 0 (QR below G dX5 ad hp0 args s none out) (F0 m 262 ls [])), W p l e (rmD 2) s m args below meth c H locs 0 0 (QR below G dX5 ad hp0 args s none out) (F0 m 205 ls []) := by
  intro n
  induction n with
  | zero =>
    intro x9 x10 H locs ls hE hM hl hk
    unfold f_X5_parts_2_L205 at hE
    cases hE
  | succ n ih =>
    intro x9 x10 H locs ls hE hM hl hk
    unfold f_X5_parts_2_L205 at hE
    refine e_iload X hl 8 rfl dX5_parts_2_205 ?_
    refine e_iload X hl 3 rfl dX5_parts_2_207 ?_
    refine e_icmp_ge X (w32 x10) (w32 b4) rfl rfl hE dX5_parts_2_209 rfl (fun hE => ?_) (fun hE => ?_)
    · exact hk x9 x10 _ _ _ hM (lv_sub hl [0, 1, 2, 3, 4, 5, 6, 7, 8] rfl) hE
    · refine e_aload_n X hl 0 rfl dX5_parts_2_212 rfl ?_
      refine r_getR X hM ck_X5 40 14 rfl rfl (by decide) q3048 rfl dX5_parts_2_213 ?_
      refine e_aload_n X hl 0 rfl dX5_parts_2_216 rfl ?_
      refine r_getR X hM ck_X5 40 39 rfl rfl (by decide) q3073 rfl dX5_parts_2_217 ?_
      refine e_iload_n X hl 2 rfl dX5_parts_2_220 rfl ?_
      refine e_iconst X dX5_parts_2_221 ?_
      refine e_iadd X dX5_parts_2_222 ?_
      refine e_iload X hl 8 rfl dX5_parts_2_223 ?_
      refine e_iadd X dX5_parts_2_225 ?_
      refine r_iald X hM 39 rfl (Nat.le_of_ble_eq_true rfl) hE dX5_parts_2_226 (fun v25 hE => ?_)
      refine r_iald X hM 14 rfl (Nat.le_of_ble_eq_true rfl) hE dX5_parts_2_227 (fun v26 hE => ?_)
      refine e_iload X hl 7 rfl dX5_parts_2_228 ?_
      obtain ⟨kj27, hkj27, hE⟩ := jn_ex hE
      have hjkj27 : ∀ (v28 : Int) (H : Heap) (locs : List Loc) (ls : Array Slot), RW G dX5 ad hp0 M H locs → lv_has ls 11 [(0, .ref (ad 40)), (1, vI b1), (3, vI b3), (4, vI b4), (5, vI b5), (7, vI b7), (8, vI b8), (10, vI x10)] → kj27 v28 = some out → W p l e (rmD 2) s m args below meth c H locs 0 0 (QR below G dX5 ad hp0 args s none out) (F0 m 254 ls [vI v28]) := by
        intro v28 H locs ls hM hl hE
        subst hkj27
        refine e_istore X hl [(9, vI v28), (0, .ref (ad 40)), (1, vI b1), (3, vI b3), (4, vI b4), (5, vI b5), (7, vI b7), (8, vI b8), (10, vI x10)] dX5_parts_2_254 (by decide) rfl (fun ls hl => ?_)
        refine e_iinc X hl 8 hE (fun v29 => [(10, vI v29), (9, vI v28), (0, .ref (ad 40)), (1, vI b1), (3, vI b3), (4, vI b4), (5, vI b5), (7, vI b7), (8, vI b8)]) rfl dX5_parts_2_256 (by decide) (fun _ => rfl) (fun v29 hE ls hl => ?_)
        refine e_goto X dX5_parts_2_259 rfl ?_
        exact ih v28 v29 _ _ _ hE hM (lv_sub hl [2, 3, 4, 5, 6, 7, 8, 1, 0] rfl) hk
      refine e_icmp_ge X (w32 v26) (w32 x9) rfl rfl hE dX5_parts_2_230 rfl (fun hE => ?_) (fun hE => ?_)
      · refine e_iload X hl 7 rfl dX5_parts_2_252 ?_
        exact hjkj27 x9 _ _ _ hM (lv_sub hl [0, 1, 2, 3, 4, 5, 6, 8] rfl) hE
      · refine e_aload_n X hl 0 rfl dX5_parts_2_233 rfl ?_
        refine r_getR X hM ck_X5 40 14 rfl rfl (by decide) q3048 rfl dX5_parts_2_234 ?_
        refine e_aload_n X hl 0 rfl dX5_parts_2_237 rfl ?_
        refine r_getR X hM ck_X5 40 39 rfl rfl (by decide) q3073 rfl dX5_parts_2_238 ?_
        refine e_iload_n X hl 2 rfl dX5_parts_2_241 rfl ?_
        refine e_iconst X dX5_parts_2_242 ?_
        refine e_iadd X dX5_parts_2_243 ?_
        refine e_iload X hl 8 rfl dX5_parts_2_244 ?_
        refine e_iadd X dX5_parts_2_246 ?_
        refine r_iald X hM 39 rfl (Nat.le_of_ble_eq_true rfl) hE dX5_parts_2_247 (fun v30 hE => ?_)
        refine r_iald X hM 14 rfl (Nat.le_of_ble_eq_true rfl) hE dX5_parts_2_248 (fun v31 hE => ?_)
        refine e_goto X dX5_parts_2_249 rfl ?_
        exact hjkj27 v31 _ _ _ hM (lv_sub hl [0, 1, 2, 3, 4, 5, 6, 8] rfl) hE
theorem wl_X5_parts_2_266 {p : Program} {l : Launch} {e : Env} {s : State} {m : MethodId} {args : Array Value} {below : List Frame} {meth : Method} {c : Code} {G : GG} {ad : Nat → Nat} {hp0 : HP} (X : CX p s m args meth c cX5_parts_2 11 RX5 none G) {N : Nat} {b1 : Int} {b3 : Int} {b4 : Int} {b5 : Int} {b7 : Int} {b8 : Int} {b9 : Int}  {k : RM → Int → Option RM} {out : RM} : ∀ (n : Nat) (M : RM) (x10 : Int) (H : Heap) (locs : List Loc) (ls : Array Slot) (hE : f_X5_parts_2_L266 N b1 b3 b4 b5 b7 b8 b9 k n M x10 = some out) (hM : RW G dX5 ad hp0 M H locs) (hl : lv_has ls 11 [(0, .ref (ad 40)), (1, vI b1), (3, vI b3), (4, vI b4), (5, vI b5), (7, vI b7), (8, vI b8), (9, vI b9), (10, vI x10)]) (hk : ∀ (M : RM) (x10 : Int) (H : Heap) (locs : List Loc) (ls : Array Slot), RW G dX5 ad hp0 M H locs → lv_has ls 11 [(0, .ref (ad 40)), (1, vI b1), (3, vI b3), (4, vI b4), (5, vI b5), (7, vI b7), (8, vI b8), (9, vI b9), (10, vI x10)] → k M x10 = some out → W p l e (rmD 2) s m args below meth c H locs 0 0 (QR below G dX5 ad hp0 args s none out) (F0 m 300 ls [])), W p l e (rmD 2) s m args below meth c H locs 0 0 (QR below G dX5 ad hp0 args s none out) (F0 m 266 ls []) := by
  intro n
  induction n with
  | zero =>
    intro M x10 H locs ls hE hM hl hk
    unfold f_X5_parts_2_L266 at hE
    cases hE
  | succ n ih =>
    intro M x10 H locs ls hE hM hl hk
    unfold f_X5_parts_2_L266 at hE
    refine e_iload X hl 8 rfl dX5_parts_2_266 ?_
    refine e_iload X hl 3 rfl dX5_parts_2_268 ?_
    refine e_icmp_ge X (w32 x10) (w32 b4) rfl rfl hE dX5_parts_2_270 rfl (fun hE => ?_) (fun hE => ?_)
    · exact hk M x10 _ _ _ hM (lv_sub hl [0, 1, 2, 3, 4, 5, 6, 7, 8] rfl) hE
    · refine e_aload_n X hl 0 rfl dX5_parts_2_273 rfl ?_
      refine r_getR X hM ck_X5 40 14 rfl rfl (by decide) q3048 rfl dX5_parts_2_274 ?_
      refine e_aload_n X hl 0 rfl dX5_parts_2_277 rfl ?_
      refine r_getR X hM ck_X5 40 39 rfl rfl (by decide) q3073 rfl dX5_parts_2_278 ?_
      refine e_iload_n X hl 2 rfl dX5_parts_2_281 rfl ?_
      refine e_iconst X dX5_parts_2_282 ?_
      refine e_iadd X dX5_parts_2_283 ?_
      refine e_iload X hl 8 rfl dX5_parts_2_284 ?_
      refine e_iadd X dX5_parts_2_286 ?_
      refine r_iald X hM 39 rfl (Nat.le_of_ble_eq_true rfl) hE dX5_parts_2_287 (fun v34 hE => ?_)
      refine e_dup2 X dX5_parts_2_288 rfl rfl ?_
      refine r_iald X hM 14 rfl (Nat.le_of_ble_eq_true rfl) hE dX5_parts_2_289 (fun v35 hE => ?_)
      refine e_iload X hl 7 rfl dX5_parts_2_290 ?_
      refine e_isub X dX5_parts_2_292 ?_
      refine r_iast X hM 14 rfl (Nat.le_of_ble_eq_true rfl) hE dX5_parts_2_293 (fun M36 hE H locs hM => ?_)
      refine e_iinc X hl 8 hE (fun v37 => [(10, vI v37), (0, .ref (ad 40)), (1, vI b1), (3, vI b3), (4, vI b4), (5, vI b5), (7, vI b7), (8, vI b8), (9, vI b9)]) rfl dX5_parts_2_294 (by decide) (fun _ => rfl) (fun v37 hE ls hl => ?_)
      refine e_goto X dX5_parts_2_297 rfl ?_
      exact ih M36 v37 _ _ _ hE hM (lv_sub hl [1, 2, 3, 4, 5, 6, 7, 8, 0] rfl) hk
theorem wl_X5_parts_2_332 {p : Program} {l : Launch} {e : Env} {s : State} {m : MethodId} {args : Array Value} {below : List Frame} {meth : Method} {c : Code} {G : GG} {ad : Nat → Nat} {hp0 : HP} (X : CX p s m args meth c cX5_parts_2 11 RX5 none G) {N : Nat} {b3 : Int} {b4 : Int} {b7 : Int} {b8 : Int} {b9 : Int}  {k : RM → Int → Option RM} {out : RM} : ∀ (n : Nat) (M : RM) (x10 : Int) (H : Heap) (locs : List Loc) (ls : Array Slot) (hE : f_X5_parts_2_L332 N b3 b4 b7 b8 b9 k n M x10 = some out) (hM : RW G dX5 ad hp0 M H locs) (hl : lv_has ls 11 [(0, .ref (ad 40)), (3, vI b3), (4, vI b4), (7, vI b7), (8, vI b8), (9, vI b9), (10, vI x10)]) (hk : ∀ (M : RM) (x10 : Int) (H : Heap) (locs : List Loc) (ls : Array Slot), RW G dX5 ad hp0 M H locs → lv_has ls 11 [(0, .ref (ad 40)), (3, vI b3), (4, vI b4), (7, vI b7), (8, vI b8), (9, vI b9), (10, vI x10)] → k M x10 = some out → W p l e (rmD 2) s m args below meth c H locs 0 0 (QR below G dX5 ad hp0 args s none out) (F0 m 370 ls [])), W p l e (rmD 2) s m args below meth c H locs 0 0 (QR below G dX5 ad hp0 args s none out) (F0 m 332 ls []) := by
  intro n
  induction n with
  | zero =>
    intro M x10 H locs ls hE hM hl hk
    unfold f_X5_parts_2_L332 at hE
    cases hE
  | succ n ih =>
    intro M x10 H locs ls hE hM hl hk
    unfold f_X5_parts_2_L332 at hE
    refine e_iload X hl 6 rfl dX5_parts_2_332 ?_
    refine e_iload X hl 2 rfl dX5_parts_2_334 ?_
    refine e_icmp_ge X (w32 x10) (w32 b4) rfl rfl hE dX5_parts_2_336 rfl (fun hE => ?_) (fun hE => ?_)
    · exact hk M x10 _ _ _ hM (lv_sub hl [0, 1, 2, 3, 4, 5, 6] rfl) hE
    · refine e_aload_n X hl 0 rfl dX5_parts_2_339 rfl ?_
      refine r_getR X hM ck_X5 40 39 rfl rfl (by decide) q3073 rfl dX5_parts_2_340 ?_
      refine e_iload_n X hl 1 rfl dX5_parts_2_343 rfl ?_
      refine e_iconst X dX5_parts_2_344 ?_
      refine e_iadd X dX5_parts_2_345 ?_
      refine e_iload X hl 6 rfl dX5_parts_2_346 ?_
      refine e_iadd X dX5_parts_2_348 ?_
      refine e_iload X hl 3 rfl dX5_parts_2_349 ?_
      refine e_isub X dX5_parts_2_351 ?_
      refine e_aload_n X hl 0 rfl dX5_parts_2_352 rfl ?_
      refine r_getR X hM ck_X5 40 39 rfl rfl (by decide) q3073 rfl dX5_parts_2_353 ?_
      refine e_iload_n X hl 1 rfl dX5_parts_2_356 rfl ?_
      refine e_iconst X dX5_parts_2_357 ?_
      refine e_iadd X dX5_parts_2_358 ?_
      refine e_iload X hl 6 rfl dX5_parts_2_359 ?_
      refine e_iadd X dX5_parts_2_361 ?_
      refine r_iald X hM 39 rfl (Nat.le_of_ble_eq_true rfl) hE dX5_parts_2_362 (fun v42 hE => ?_)
      refine r_iast X hM 39 rfl (Nat.le_of_ble_eq_true rfl) hE dX5_parts_2_363 (fun M43 hE H locs hM => ?_)
      refine e_iinc X hl 6 hE (fun v44 => [(10, vI v44), (0, .ref (ad 40)), (3, vI b3), (4, vI b4), (7, vI b7), (8, vI b8), (9, vI b9)]) rfl dX5_parts_2_364 (by decide) (fun _ => rfl) (fun v44 hE ls hl => ?_)
      refine e_goto X dX5_parts_2_367 rfl ?_
      exact ih M43 v44 _ _ _ hE hM (lv_sub hl [1, 2, 3, 4, 5, 6, 0] rfl) hk
theorem wb_X5_parts_2 {p : Program} {l : Launch} {e : Env} {s : State} {m : MethodId} {args : Array Value} {below : List Frame} {meth : Method} {c : Code} {G : GG} {ad : Nat → Nat} {hp0 : HP} (X : CX p s m args meth c cX5_parts_2 11 RX5 none G) {N : Nat} {M : RM} {a1 : Int} {a2 : Int}   {out : RM} (hE : f_X5_parts_2 N M a1 a2 = some out) {H : Heap} {locs : List Loc} {ls : Array Slot} (hM : RW G dX5 ad hp0 M H locs) (hl : lv_has ls 11 [(0, .ref (ad 40)), (1, vI a1), (2, vI a2)]) : W p l e (rmD 2) s m args below meth c H locs 0 0 (QR below G dX5 ad hp0 args s none out) (F0 m 0 ls []) := by
  unfold f_X5_parts_2 at hE
  refine e_bipush X dX5_parts_2_0 (by decide) ?_
  refine e_aload_n X hl 0 rfl dX5_parts_2_2 rfl ?_
  refine e_dup X dX5_parts_2_3 rfl ?_
  refine r_getI X hM ck_X5 40 38 rfl rfl (by decide) q3072 rfl dX5_parts_2_4 ?_
  refine e_dup_x1 X dX5_parts_2_7 rfl rfl ?_
  refine e_iconst X dX5_parts_2_8 ?_
  refine e_iadd X dX5_parts_2_9 ?_
  refine r_putI X hM ck_X5 40 38 rfl rfl (by decide) q3072 rfl rfl hE rfl dX5_parts_2_10 (fun M1 hE H locs hM => ?_)
  refine e_imul X dX5_parts_2_13 ?_
  refine e_top hE (fun v2 hE => ?_)
  refine e_istore_n X hl [(3, vI v2), (0, .ref (ad 40)), (1, vI a1), (2, vI a2)] dX5_parts_2_14 rfl (by decide) rfl (fun ls hl => ?_)
  refine e_iconst X dX5_parts_2_15 ?_
  refine e_istore X hl [(4, vI 0), (3, vI v2), (0, .ref (ad 40)), (1, vI a1), (2, vI a2)] dX5_parts_2_16 (by decide) rfl (fun ls hl => ?_)
  refine e_iload_n X hl 3 rfl dX5_parts_2_18 rfl ?_
  refine e_istore X hl [(5, vI a1), (4, vI 0), (3, vI v2), (0, .ref (ad 40)), (1, vI a1), (2, vI a2)] dX5_parts_2_19 (by decide) rfl (fun ls hl => ?_)
  refine e_iconst X dX5_parts_2_21 ?_
  refine e_istore X hl [(6, vI 0), (5, vI a1), (4, vI 0), (3, vI v2), (0, .ref (ad 40)), (1, vI a1), (2, vI a2)] dX5_parts_2_22 (by decide) rfl (fun ls hl => ?_)
  refine wl_X5_parts_2_24 X _ M1 0 a1 0 _ _ _ hE hM (lv_sub hl [4, 5, 6, 3, 2, 1, 0] rfl) (fun M12 v13 v14 v15 H locs ls hM hl hE => ?_)
  refine e_iconst X dX5_parts_2_105 ?_
  refine e_istore X hl [(7, vI 0), (0, .ref (ad 40)), (1, vI a1), (2, vI a2), (3, vI v2), (4, vI v13), (5, vI v14), (6, vI v15)] dX5_parts_2_106 (by decide) rfl (fun ls hl => ?_)
  refine wl_X5_parts_2_108 X _ 0 _ _ _ hE hM (lv_sub hl [1, 2, 4, 5, 6, 0] rfl) (fun v18 H locs ls hM hl hE => ?_)
  refine e_iload X hl 5 rfl dX5_parts_2_133 ?_
  refine e_iload X hl 3 rfl dX5_parts_2_135 ?_
  obtain ⟨kj19, hkj19, hE⟩ := jn_ex hE
  have hjkj19 : ∀ (v20 : Int) (H : Heap) (locs : List Loc) (ls : Array Slot), RW G dX5 ad hp0 M12 H locs → lv_has ls 11 [(0, .ref (ad 40)), (1, vI a1), (3, vI v2), (4, vI v13), (5, vI v14), (7, vI v18)] → kj19 v20 = some out → W p l e (rmD 2) s m args below meth c H locs 0 0 (QR below G dX5 ad hp0 args s none out) (F0 m 145 ls [vI v20]) := by
    intro v20 H locs ls hM hl hE
    subst hkj19
    refine e_istore X hl [(8, vI v20), (0, .ref (ad 40)), (1, vI a1), (3, vI v2), (4, vI v13), (5, vI v14), (7, vI v18)] dX5_parts_2_145 (by decide) rfl (fun ls hl => ?_)
    refine e_iload X hl 0 rfl dX5_parts_2_147 ?_
    obtain ⟨kj21, hkj21, hE⟩ := jn_ex hE
    have hjkj21 : ∀ (v22 : Int) (H : Heap) (locs : List Loc) (ls : Array Slot), RW G dX5 ad hp0 M12 H locs → lv_has ls 11 [(0, .ref (ad 40)), (1, vI a1), (3, vI v2), (4, vI v13), (5, vI v14), (7, vI v22), (8, vI v20)] → kj21 v22 = some out → W p l e (rmD 2) s m args below meth c H locs 0 0 (QR below G dX5 ad hp0 args s none out) (F0 m 155 ls []) := by
      intro v22 H locs ls hM hl hE
      subst hkj21
      refine e_iload X hl 6 rfl dX5_parts_2_155 ?_
      obtain ⟨kj23, hkj23, hE⟩ := jn_ex hE
      have hjkj23 : ∀ (v24 : Int) (H : Heap) (locs : List Loc) (ls : Array Slot), RW G dX5 ad hp0 M12 H locs → lv_has ls 11 [(0, .ref (ad 40)), (1, vI a1), (3, vI v2), (4, vI v13), (5, vI v14), (7, vI v22), (8, vI v20)] → kj23 v24 = some out → W p l e (rmD 2) s m args below meth c H locs 0 0 (QR below G dX5 ad hp0 args s none out) (F0 m 199 ls [vI v24]) := by
        intro v24 H locs ls hM hl hE
        subst hkj23
        refine e_istore X hl [(9, vI v24), (0, .ref (ad 40)), (1, vI a1), (3, vI v2), (4, vI v13), (5, vI v14), (7, vI v22), (8, vI v20)] dX5_parts_2_199 (by decide) rfl (fun ls hl => ?_)
        refine e_iload X hl 6 rfl dX5_parts_2_201 ?_
        refine e_istore X hl [(10, vI v22), (9, vI v24), (0, .ref (ad 40)), (1, vI a1), (3, vI v2), (4, vI v13), (5, vI v14), (7, vI v22), (8, vI v20)] dX5_parts_2_203 (by decide) rfl (fun ls hl => ?_)
        refine wl_X5_parts_2_205 X _ v24 v22 _ _ _ hE hM (lv_sub hl [2, 3, 4, 5, 6, 7, 8, 1, 0] rfl) (fun v32 v33 H locs ls hM hl hE => ?_)
        refine e_iload X hl 5 rfl dX5_parts_2_262 ?_
        refine e_istore X hl [(10, vI v22), (0, .ref (ad 40)), (1, vI a1), (3, vI v2), (4, vI v13), (5, vI v14), (7, vI v22), (8, vI v20), (9, vI v32)] dX5_parts_2_264 (by decide) rfl (fun ls hl => ?_)
        refine wl_X5_parts_2_266 X _ M12 v22 _ _ _ hE hM (lv_sub hl [1, 2, 3, 4, 5, 6, 7, 8, 0] rfl) (fun M38 v39 H locs ls hM hl hE => ?_)
        refine e_iload X hl 6 rfl dX5_parts_2_300 ?_
        obtain ⟨kj40, hkj40, hE⟩ := jn_ex hE
        have hjkj40 : ∀ (M41 : RM) (H : Heap) (locs : List Loc) (ls : Array Slot), RW G dX5 ad hp0 M41 H locs → lv_has ls 11 [(0, .ref (ad 40)), (3, vI v2), (4, vI v13), (7, vI v22), (8, vI v20), (9, vI v32)] → kj40 M41 = some out → W p l e (rmD 2) s m args below meth c H locs 0 0 (QR below G dX5 ad hp0 args s none out) (F0 m 328 ls []) := by
          intro M41 H locs ls hM hl hE
          subst hkj40
          refine e_iload X hl 3 rfl dX5_parts_2_328 ?_
          refine e_istore X hl [(10, vI v22), (0, .ref (ad 40)), (3, vI v2), (4, vI v13), (7, vI v22), (8, vI v20), (9, vI v32)] dX5_parts_2_330 (by decide) rfl (fun ls hl => ?_)
          refine wl_X5_parts_2_332 X _ M41 v22 _ _ _ hE hM (lv_sub hl [1, 2, 3, 4, 5, 6, 0] rfl) (fun M45 v46 H locs ls hM hl hE => ?_)
          refine e_aload_n X hl 0 rfl dX5_parts_2_370 rfl ?_
          refine r_getR X hM ck_X5 40 39 rfl rfl (by decide) q3073 rfl dX5_parts_2_371 ?_
          refine e_iload_n X hl 1 rfl dX5_parts_2_374 rfl ?_
          refine e_iload X hl 5 rfl dX5_parts_2_375 ?_
          refine r_iast X hM 39 rfl (Nat.le_of_ble_eq_true rfl) hE dX5_parts_2_377 (fun M47 hE H locs hM => ?_)
          refine e_aload_n X hl 0 rfl dX5_parts_2_378 rfl ?_
          refine r_getR X hM ck_X5 40 39 rfl rfl (by decide) q3073 rfl dX5_parts_2_379 ?_
          refine e_iload_n X hl 1 rfl dX5_parts_2_382 rfl ?_
          refine e_iconst X dX5_parts_2_383 ?_
          refine e_iadd X dX5_parts_2_384 ?_
          refine e_iload X hl 2 rfl dX5_parts_2_385 ?_
          refine e_iload X hl 3 rfl dX5_parts_2_387 ?_
          refine e_isub X dX5_parts_2_389 ?_
          refine r_iast X hM 39 rfl (Nat.le_of_ble_eq_true rfl) hE dX5_parts_2_390 (fun M48 hE H locs hM => ?_)
          refine e_aload_n X hl 0 rfl dX5_parts_2_391 rfl ?_
          refine r_getR X hM ck_X5 40 39 rfl rfl (by decide) q3073 rfl dX5_parts_2_392 ?_
          refine e_iload_n X hl 1 rfl dX5_parts_2_395 rfl ?_
          refine e_iconst X dX5_parts_2_396 ?_
          refine e_iadd X dX5_parts_2_397 ?_
          refine e_iload X hl 4 rfl dX5_parts_2_398 ?_
          obtain ⟨kj49, hkj49, hE⟩ := jn_ex hE
          have hjkj49 : ∀ (v50 : Int) (H : Heap) (locs : List Loc) (ls : Array Slot), RW G dX5 ad hp0 M48 H locs → lv_has ls 11 [(0, .ref (ad 40)), (3, vI v2), (7, vI v22)] → kj49 v50 = some out → W p l e (rmD 2) s m args below meth c H locs 0 0 (QR below G dX5 ad hp0 args s none out) (F0 m 408 ls [vI v50, vI (v2 + 2), .ref (ad 39)]) := by
            intro v50 H locs ls hM hl hE
            subst hkj49
            refine r_iast X hM 39 rfl (Nat.le_of_ble_eq_true rfl) hE dX5_parts_2_408 (fun M51 hE H locs hM => ?_)
            refine e_aload_n X hl 0 rfl dX5_parts_2_409 rfl ?_
            refine r_getR X hM ck_X5 40 39 rfl rfl (by decide) q3073 rfl dX5_parts_2_410 ?_
            refine e_iload_n X hl 1 rfl dX5_parts_2_413 rfl ?_
            refine e_iconst X dX5_parts_2_414 ?_
            refine e_iadd X dX5_parts_2_415 ?_
            refine e_aload_n X hl 0 rfl dX5_parts_2_416 rfl ?_
            refine r_getR X hM ck_X5 40 32 rfl rfl (by decide) q3066 rfl dX5_parts_2_417 ?_
            refine e_iload X hl 2 rfl dX5_parts_2_420 ?_
            refine r_iald X hM 32 rfl (Nat.le_of_ble_eq_true rfl) hE dX5_parts_2_422 (fun v52 hE => ?_)
            refine r_iast X hM 39 rfl (Nat.le_of_ble_eq_true rfl) hE dX5_parts_2_423 (fun M53 hE H locs hM => ?_)
            cases hE
            exact r_vret X hM dX5_parts_2_424
          refine e_if_eq X (w32 v20) rfl hE dX5_parts_2_400 rfl (fun hE => ?_) (fun hE => ?_)
          · refine e_iconst X dX5_parts_2_407 ?_
            exact hjkj49 0 _ _ _ hM (lv_sub hl [0, 1, 3] rfl) hE
          · refine e_iconst X dX5_parts_2_403 ?_
            refine e_goto X dX5_parts_2_404 rfl ?_
            exact hjkj49 1 _ _ _ hM (lv_sub hl [0, 1, 3] rfl) hE
        refine e_if_ne X (w32 v20) rfl hE dX5_parts_2_302 rfl (fun hE => ?_) (fun hE => ?_)
        · exact hjkj40 M38 _ _ _ hM (lv_sub hl [0, 2, 3, 5, 6, 7] rfl) hE
        · refine e_aload_n X hl 0 rfl dX5_parts_2_305 rfl ?_
          refine r_getR X hM ck_X5 40 15 rfl rfl (by decide) q3049 rfl dX5_parts_2_306 ?_
          refine e_iload_n X hl 1 rfl dX5_parts_2_309 rfl ?_
          refine e_dup2 X dX5_parts_2_310 rfl rfl ?_
          refine r_iald X hM 15 rfl (Nat.le_of_ble_eq_true rfl) hE dX5_parts_2_311 (fun v54 hE => ?_)
          refine e_iload X hl 7 rfl dX5_parts_2_312 ?_
          refine e_isub X dX5_parts_2_314 ?_
          refine r_iast X hM 15 rfl (Nat.le_of_ble_eq_true rfl) hE dX5_parts_2_315 (fun M55 hE H locs hM => ?_)
          refine e_aload_n X hl 0 rfl dX5_parts_2_316 rfl ?_
          refine r_getR X hM ck_X5 40 15 rfl rfl (by decide) q3049 rfl dX5_parts_2_317 ?_
          refine e_iload X hl 4 rfl dX5_parts_2_320 ?_
          refine e_dup2 X dX5_parts_2_322 rfl rfl ?_
          refine r_iald X hM 15 rfl (Nat.le_of_ble_eq_true rfl) hE dX5_parts_2_323 (fun v56 hE => ?_)
          refine e_iload X hl 7 rfl dX5_parts_2_324 ?_
          refine e_iadd X dX5_parts_2_326 ?_
          refine r_iast X hM 15 rfl (Nat.le_of_ble_eq_true rfl) hE dX5_parts_2_327 (fun M57 hE H locs hM => ?_)
          exact hjkj40 M57 _ _ _ hM (lv_sub hl [0, 2, 3, 5, 6, 7] rfl) hE
      refine e_if_eq X (w32 v20) rfl hE dX5_parts_2_157 rfl (fun hE => ?_) (fun hE => ?_)
      · refine e_aload_n X hl 0 rfl dX5_parts_2_165 rfl ?_
        refine r_getR X hM ck_X5 40 15 rfl rfl (by decide) q3049 rfl dX5_parts_2_166 ?_
        refine e_iload_n X hl 1 rfl dX5_parts_2_169 rfl ?_
        refine r_iald X hM 15 rfl (Nat.le_of_ble_eq_true rfl) hE dX5_parts_2_170 (fun v58 hE => ?_)
        refine e_aload_n X hl 0 rfl dX5_parts_2_171 rfl ?_
        refine r_getR X hM ck_X5 40 15 rfl rfl (by decide) q3049 rfl dX5_parts_2_172 ?_
        refine e_iload X hl 4 rfl dX5_parts_2_175 ?_
        refine r_iald X hM 15 rfl (Nat.le_of_ble_eq_true rfl) hE dX5_parts_2_177 (fun v59 hE => ?_)
        refine e_ineg X dX5_parts_2_178 ?_
        refine e_icmp_ge X (w32 v58) (w32 (-v59)) rfl rfl hE dX5_parts_2_179 rfl (fun hE => ?_) (fun hE => ?_)
        · refine e_aload_n X hl 0 rfl dX5_parts_2_191 rfl ?_
          refine r_getR X hM ck_X5 40 15 rfl rfl (by decide) q3049 rfl dX5_parts_2_192 ?_
          refine e_iload X hl 4 rfl dX5_parts_2_195 ?_
          refine r_iald X hM 15 rfl (Nat.le_of_ble_eq_true rfl) hE dX5_parts_2_197 (fun v60 hE => ?_)
          refine e_ineg X dX5_parts_2_198 ?_
          exact hjkj23 (-v60) _ _ _ hM (lv_sub hl [0, 1, 2, 3, 4, 5, 6] rfl) hE
        · refine e_aload_n X hl 0 rfl dX5_parts_2_182 rfl ?_
          refine r_getR X hM ck_X5 40 15 rfl rfl (by decide) q3049 rfl dX5_parts_2_183 ?_
          refine e_iload_n X hl 1 rfl dX5_parts_2_186 rfl ?_
          refine r_iald X hM 15 rfl (Nat.le_of_ble_eq_true rfl) hE dX5_parts_2_187 (fun v61 hE => ?_)
          refine e_goto X dX5_parts_2_188 rfl ?_
          exact hjkj23 v61 _ _ _ hM (lv_sub hl [0, 1, 2, 3, 4, 5, 6] rfl) hE
      · refine e_bipush X dX5_parts_2_160 (by decide) ?_
        refine e_goto X dX5_parts_2_162 rfl ?_
        exact hjkj23 99 _ _ _ hM (lv_sub hl [0, 1, 2, 3, 4, 5, 6] rfl) hE
    refine e_if_ne X (w32 v20) rfl hE dX5_parts_2_149 rfl (fun hE => ?_) (fun hE => ?_)
    · exact hjkj21 v18 _ _ _ hM (lv_sub hl [1, 2, 3, 4, 5, 6, 0] rfl) hE
    · refine e_iconst X dX5_parts_2_152 ?_
      refine e_istore X hl [(7, vI 0), (8, vI v20), (0, .ref (ad 40)), (1, vI a1), (3, vI v2), (4, vI v13), (5, vI v14)] dX5_parts_2_153 (by decide) rfl (fun ls hl => ?_)
      exact hjkj21 0 _ _ _ hM (lv_sub hl [2, 3, 4, 5, 6, 0, 1] rfl) hE
  refine e_icmp_ge X (w32 v18) (w32 v13) rfl rfl hE dX5_parts_2_137 rfl (fun hE => ?_) (fun hE => ?_)
  · refine e_iconst X dX5_parts_2_144 ?_
    exact hjkj19 0 _ _ _ hM (lv_sub hl [0, 1, 2, 3, 4, 5] rfl) hE
  · refine e_iconst X dX5_parts_2_140 ?_
    refine e_goto X dX5_parts_2_141 rfl ?_
    exact hjkj19 1 _ _ _ hM (lv_sub hl [0, 1, 2, 3, 4, 5] rfl) hE
theorem met_X5_parts_2 (l : Launch) (G : GG) (ad : Nat → Nat) (hp0 : HP) {N : Nat} (M : RM) (a1 : Int) (a2 : Int)  {out : RM} (hE : f_X5_parts_2 N M a1 a2 = some out) : MR l yX5_parts_2 (ws_ yX5_parts_2 cX5_parts_2 11 none) 2 G dX5 ad hp0 [.ref (ad 40), vI a1, vI a2] M none out :=
  MR.of (by decide) (Nat.le_of_ble_eq_true rfl) rfl (fun p e s m below meth c ls X hM hl => wb_X5_parts_2 X hE hM hl)
def f_X5_isParted_L16 (N : Nat)  (k : RM → Int → Option (Int × RM)) : Nat → RM → Int → Option (Int × RM)
  | 0, _, _ => none
  | n + 1, M, x1 =>
    ob (f_X5_towns_2 M) fun v4 => if w32 v4 ≤ w32 x1 then (k M x1) else (ob (gA 110 M 0 (2 + x1)) fun v5 => ob (sA 8 M 15 x1 v5) fun M6 => jn (x1 + 1) fun v7 => f_X5_isParted_L16 N  k n M6 v7)
def f_X5_isParted_L59 (N : Nat) (M : RM)  (k : Int → Int → Option (Int × RM)) : Nat → Int → Int → Option (Int × RM)
  | 0, _, _ => none
  | n + 1, x2, x3 =>
    if w32 x3 < 0 then (k x2 x3) else (ob (gA 8 M 15 x3) fun v12 => jn (fun (v14 : Int) => jn (x3 + (-1)) fun v15 => f_X5_isParted_L59 N M  k n v14 v15) fun kj13 => if w32 v12 ≤ 0 then (kj13 x2) else (kj13 x3))
def f_X5_isParted_L46 (N : Nat)  (k : RM → Int → Option (Int × RM)) : Nat → RM → Int → Option (Int × RM)
  | 0, _, _ => none
  | n + 1, M, x1 =>
    if w32 x1 = 0 then (k M x1) else (ob (f_X5_towns_2 M) fun v10 => jn (v10 - 1) fun v11 => f_X5_isParted_L59 N M  (fun (v16 : Int) (v17 : Int) => jn (fun (v19 : Int) => jn (fun (v21 : Int) => jn (fun (v23 : Int) => jn (fun (v25 : Int) => jn (fun (M27 : RM) => f_X5_isParted_L46 N  k n M27 v25) fun kj26 => if w32 v25 = 0 then (kj26 M) else (ob (f_X5_parts_2 N M v23 v19) fun M28 => kj26 M28)) fun kj24 => if w32 v23 < 0 then (kj24 0) else (kj24 1)) fun kj22 => if w32 v21 < 0 then (kj22 v16) else (ob (f_X5_from M v21) fun v29 => kj22 v29)) fun kj20 => if w32 v19 = 0 then (ob (f_X5_leastRoad N M (-1)) fun v30 => kj20 v30) else (kj20 (-1))) fun kj18 => if w32 v16 < 0 then (kj18 0) else (kj18 1)) N (-1) v11)
def f_X5_isParted (N : Nat) (M : RM)  : Option (Int × RM) :=
  jn (up2 M 40 38 0) fun M1 => ob2 (f_X5_flows N M1) fun v2 M3 => if ¬ w32 v2 = 0 then (f_X5_isParted_L16 N  (fun (M8 : RM) (v9 : Int) => f_X5_isParted_L46 N  (fun (M31 : RM) (v32 : Int) => some (1, M31)) N M8 1) N M3 0) else (some (0, M3))
theorem hd_X5_isParted : yX5_isParted.cls = RX5 ∧ yX5_isParted.cls ≠ "java/lang/invoke/MethodHandle" ∧ yX5_isParted.cls ≠ "java/lang/invoke/VarHandle" ∧ (parseMethodDescriptor yX5_isParted.desc).map (fun d => d.parameters.length) = some 0 := by decide +kernel
theorem wl_X5_isParted_16 {p : Program} {l : Launch} {e : Env} {s : State} {m : MethodId} {args : Array Value} {below : List Frame} {meth : Method} {c : Code} {G : GG} {ad : Nat → Nat} {hp0 : HP} (X : CX p s m args meth c cX5_isParted 5 RX5 (some .boolean) G) {N : Nat}   {k : RM → Int → Option (Int × RM)} {out : (Int × RM)} : ∀ (n : Nat) (M : RM) (x1 : Int) (H : Heap) (locs : List Loc) (ls : Array Slot) (hE : f_X5_isParted_L16 N  k n M x1 = some out) (hM : RW G dX5 ad hp0 M H locs) (hl : lv_has ls 5 [(0, .ref (ad 40)), (1, vI x1)]) (hk : ∀ (M : RM) (x1 : Int) (H : Heap) (locs : List Loc) (ls : Array Slot), RW G dX5 ad hp0 M H locs → lv_has ls 5 [(0, .ref (ad 40)), (1, vI x1)] → k M x1 = some out → W p l e (rmD 6) s m args below meth c H locs 0 0 (QR below G dX5 ad hp0 args s (some (vI out.1)) out.2) (F0 m 44 ls [])), W p l e (rmD 6) s m args below meth c H locs 0 0 (QR below G dX5 ad hp0 args s (some (vI out.1)) out.2) (F0 m 16 ls []) := by
  intro n
  induction n with
  | zero =>
    intro M x1 H locs ls hE hM hl hk
    unfold f_X5_isParted_L16 at hE
    cases hE
  | succ n ih =>
    intro M x1 H locs ls hE hM hl hk
    unfold f_X5_isParted_L16 at hE
    refine e_iload_n X hl 1 rfl dX5_isParted_16 rfl ?_
    refine e_aload_n X hl 0 rfl dX5_isParted_17 rfl ?_
    obtain ⟨v4, h, hE⟩ := ob_some hE
    refine r_callV1 X hM 40 rfl ck_X5 (rest := [vI x1]) (met_X5_towns_2 l G ad hp0 M h) (cwV 0 X.ht (lw_V q3187 q3189 qs75 q170 q3190) rfl rfl rfl hd_X5_towns_2 (cxR (by decide) (by decide))) rfl hl.1 rfl (Nat.le_of_ble_eq_true rfl) dX5_isParted_18 ⟨Nat.le_refl _, Nat.le_refl _⟩ (fun H locs hM => ?_)
    refine e_icmp_ge X (w32 x1) (w32 v4) rfl rfl hE dX5_isParted_21 rfl (fun hE => ?_) (fun hE => ?_)
    · exact hk M x1 _ _ _ hM (lv_sub hl [0, 1] rfl) hE
    · refine e_aload_n X hl 0 rfl dX5_isParted_24 rfl ?_
      refine r_getR X hM ck_X5 40 15 rfl rfl (by decide) q3049 rfl dX5_isParted_25 ?_
      refine e_iload_n X hl 1 rfl dX5_isParted_28 rfl ?_
      refine e_aload_n X hl 0 rfl dX5_isParted_29 rfl ?_
      refine r_getR X hM ck_X5 40 0 rfl rfl (by decide) q3034 rfl dX5_isParted_30 ?_
      refine e_iconst X dX5_isParted_33 ?_
      refine e_iload_n X hl 1 rfl dX5_isParted_34 rfl ?_
      refine e_iadd X dX5_isParted_35 ?_
      refine r_iald X hM 0 rfl (Nat.le_of_ble_eq_true rfl) hE dX5_isParted_36 (fun v5 hE => ?_)
      refine r_iast X hM 15 rfl (Nat.le_of_ble_eq_true rfl) hE dX5_isParted_37 (fun M6 hE H locs hM => ?_)
      refine e_iinc X hl 1 hE (fun v7 => [(1, vI v7), (0, .ref (ad 40))]) rfl dX5_isParted_38 (by decide) (fun _ => rfl) (fun v7 hE ls hl => ?_)
      refine e_goto X dX5_isParted_41 rfl ?_
      exact ih M6 v7 _ _ _ hE hM (lv_sub hl [1, 0] rfl) hk
theorem wl_X5_isParted_59 {p : Program} {l : Launch} {e : Env} {s : State} {m : MethodId} {args : Array Value} {below : List Frame} {meth : Method} {c : Code} {G : GG} {ad : Nat → Nat} {hp0 : HP} (X : CX p s m args meth c cX5_isParted 5 RX5 (some .boolean) G) {N : Nat} {M : RM}   {k : Int → Int → Option (Int × RM)} {out : (Int × RM)} : ∀ (n : Nat) (x2 : Int) (x3 : Int) (H : Heap) (locs : List Loc) (ls : Array Slot) (hE : f_X5_isParted_L59 N M  k n x2 x3 = some out) (hM : RW G dX5 ad hp0 M H locs) (hl : lv_has ls 5 [(0, .ref (ad 40)), (2, vI x2), (3, vI x3)]) (hk : ∀ (x2 : Int) (x3 : Int) (H : Heap) (locs : List Loc) (ls : Array Slot), RW G dX5 ad hp0 M H locs → lv_has ls 5 [(0, .ref (ad 40)), (2, vI x2), (3, vI x3)] → k x2 x3 = some out → W p l e (rmD 6) s m args below meth c H locs 0 0 (QR below G dX5 ad hp0 args s (some (vI out.1)) out.2) (F0 m 80 ls [])), W p l e (rmD 6) s m args below meth c H locs 0 0 (QR below G dX5 ad hp0 args s (some (vI out.1)) out.2) (F0 m 59 ls []) := by
  intro n
  induction n with
  | zero =>
    intro x2 x3 H locs ls hE hM hl hk
    unfold f_X5_isParted_L59 at hE
    cases hE
  | succ n ih =>
    intro x2 x3 H locs ls hE hM hl hk
    unfold f_X5_isParted_L59 at hE
    refine e_iload_n X hl 2 rfl dX5_isParted_59 rfl ?_
    refine e_if_lt X (w32 x3) rfl hE dX5_isParted_60 rfl (fun hE => ?_) (fun hE => ?_)
    · exact hk x2 x3 _ _ _ hM (lv_sub hl [0, 1, 2] rfl) hE
    · refine e_aload_n X hl 0 rfl dX5_isParted_63 rfl ?_
      refine r_getR X hM ck_X5 40 15 rfl rfl (by decide) q3049 rfl dX5_isParted_64 ?_
      refine e_iload_n X hl 2 rfl dX5_isParted_67 rfl ?_
      refine r_iald X hM 15 rfl (Nat.le_of_ble_eq_true rfl) hE dX5_isParted_68 (fun v12 hE => ?_)
      obtain ⟨kj13, hkj13, hE⟩ := jn_ex hE
      have hjkj13 : ∀ (v14 : Int) (H : Heap) (locs : List Loc) (ls : Array Slot), RW G dX5 ad hp0 M H locs → lv_has ls 5 [(0, .ref (ad 40)), (2, vI v14), (3, vI x3)] → kj13 v14 = some out → W p l e (rmD 6) s m args below meth c H locs 0 0 (QR below G dX5 ad hp0 args s (some (vI out.1)) out.2) (F0 m 74 ls []) := by
        intro v14 H locs ls hM hl hE
        subst hkj13
        refine e_iinc X hl 2 hE (fun v15 => [(3, vI v15), (0, .ref (ad 40)), (2, vI v14)]) rfl dX5_isParted_74 (by decide) (fun _ => rfl) (fun v15 hE ls hl => ?_)
        refine e_goto X dX5_isParted_77 rfl ?_
        exact ih v14 v15 _ _ _ hE hM (lv_sub hl [1, 2, 0] rfl) hk
      refine e_if_le X (w32 v12) rfl hE dX5_isParted_69 rfl (fun hE => ?_) (fun hE => ?_)
      · exact hjkj13 x2 _ _ _ hM (lv_sub hl [0, 1, 2] rfl) hE
      · refine e_iload_n X hl 2 rfl dX5_isParted_72 rfl ?_
        refine e_istore_n X hl [(2, vI x3), (0, .ref (ad 40)), (3, vI x3)] dX5_isParted_73 rfl (by decide) rfl (fun ls hl => ?_)
        exact hjkj13 x3 _ _ _ hM (lv_sub hl [1, 0, 2] rfl) hE
theorem wl_X5_isParted_46 {p : Program} {l : Launch} {e : Env} {s : State} {m : MethodId} {args : Array Value} {below : List Frame} {meth : Method} {c : Code} {G : GG} {ad : Nat → Nat} {hp0 : HP} (X : CX p s m args meth c cX5_isParted 5 RX5 (some .boolean) G) {N : Nat}   {k : RM → Int → Option (Int × RM)} {out : (Int × RM)} : ∀ (n : Nat) (M : RM) (x1 : Int) (H : Heap) (locs : List Loc) (ls : Array Slot) (hE : f_X5_isParted_L46 N  k n M x1 = some out) (hM : RW G dX5 ad hp0 M H locs) (hl : lv_has ls 5 [(0, .ref (ad 40)), (1, vI x1)]) (hk : ∀ (M : RM) (x1 : Int) (H : Heap) (locs : List Loc) (ls : Array Slot), RW G dX5 ad hp0 M H locs → lv_has ls 5 [(0, .ref (ad 40)), (1, vI x1)] → k M x1 = some out → W p l e (rmD 6) s m args below meth c H locs 0 0 (QR below G dX5 ad hp0 args s (some (vI out.1)) out.2) (F0 m 140 ls [])), W p l e (rmD 6) s m args below meth c H locs 0 0 (QR below G dX5 ad hp0 args s (some (vI out.1)) out.2) (F0 m 46 ls []) := by
  intro n
  induction n with
  | zero =>
    intro M x1 H locs ls hE hM hl hk
    unfold f_X5_isParted_L46 at hE
    cases hE
  | succ n ih =>
    intro M x1 H locs ls hE hM hl hk
    unfold f_X5_isParted_L46 at hE
    refine e_iload_n X hl 1 rfl dX5_isParted_46 rfl ?_
    refine e_if_eq X (w32 x1) rfl hE dX5_isParted_47 rfl (fun hE => ?_) (fun hE => ?_)
    · exact hk M x1 _ _ _ hM (lv_sub hl [0, 1] rfl) hE
    · refine e_iconst X dX5_isParted_50 ?_
      refine e_istore_n X hl [(2, vI (-1)), (0, .ref (ad 40)), (1, vI x1)] dX5_isParted_51 rfl (by decide) rfl (fun ls hl => ?_)
      refine e_aload_n X hl 1 rfl dX5_isParted_52 rfl ?_
      obtain ⟨v10, h, hE⟩ := ob_some hE
      refine r_callV1 X hM 40 rfl ck_X5 (rest := []) (met_X5_towns_2 l G ad hp0 M h) (cwV 0 X.ht (lw_V q3187 q3189 qs75 q170 q3190) rfl rfl rfl hd_X5_towns_2 (cxR (by decide) (by decide))) rfl hl.1 rfl (Nat.le_of_ble_eq_true rfl) dX5_isParted_53 ⟨Nat.le_refl _, Nat.le_refl _⟩ (fun H locs hM => ?_)
      refine e_iconst X dX5_isParted_56 ?_
      refine e_isub X dX5_isParted_57 ?_
      refine e_top hE (fun v11 hE => ?_)
      refine e_istore_n X hl [(3, vI v11), (2, vI (-1)), (0, .ref (ad 40)), (1, vI x1)] dX5_isParted_58 rfl (by decide) rfl (fun ls hl => ?_)
      refine wl_X5_isParted_59 X _ (-1) v11 _ _ _ hE hM (lv_sub hl [2, 1, 0] rfl) (fun v16 v17 H locs ls hM hl hE => ?_)
      refine e_iload_n X hl 1 rfl dX5_isParted_80 rfl ?_
      obtain ⟨kj18, hkj18, hE⟩ := jn_ex hE
      have hjkj18 : ∀ (v19 : Int) (H : Heap) (locs : List Loc) (ls : Array Slot), RW G dX5 ad hp0 M H locs → lv_has ls 5 [(0, .ref (ad 40)), (2, vI v16)] → kj18 v19 = some out → W p l e (rmD 6) s m args below meth c H locs 0 0 (QR below G dX5 ad hp0 args s (some (vI out.1)) out.2) (F0 m 89 ls [vI v19]) := by
        intro v19 H locs ls hM hl hE
        subst hkj18
        refine e_istore_n X hl [(3, vI v19), (0, .ref (ad 40)), (2, vI v16)] dX5_isParted_89 rfl (by decide) rfl (fun ls hl => ?_)
        refine e_iload_n X hl 0 rfl dX5_isParted_90 rfl ?_
        obtain ⟨kj20, hkj20, hE⟩ := jn_ex hE
        have hjkj20 : ∀ (v21 : Int) (H : Heap) (locs : List Loc) (ls : Array Slot), RW G dX5 ad hp0 M H locs → lv_has ls 5 [(0, .ref (ad 40)), (2, vI v16), (3, vI v19)] → kj20 v21 = some out → W p l e (rmD 6) s m args below meth c H locs 0 0 (QR below G dX5 ad hp0 args s (some (vI out.1)) out.2) (F0 m 103 ls [vI v21]) := by
          intro v21 H locs ls hM hl hE
          subst hkj20
          refine e_istore X hl [(4, vI v21), (0, .ref (ad 40)), (2, vI v16), (3, vI v19)] dX5_isParted_103 (by decide) rfl (fun ls hl => ?_)
          refine e_iload X hl 0 rfl dX5_isParted_105 ?_
          obtain ⟨kj22, hkj22, hE⟩ := jn_ex hE
          have hjkj22 : ∀ (v23 : Int) (H : Heap) (locs : List Loc) (ls : Array Slot), RW G dX5 ad hp0 M H locs → lv_has ls 5 [(0, .ref (ad 40)), (2, vI v23), (3, vI v19)] → kj22 v23 = some out → W p l e (rmD 6) s m args below meth c H locs 0 0 (QR below G dX5 ad hp0 args s (some (vI out.1)) out.2) (F0 m 117 ls []) := by
            intro v23 H locs ls hM hl hE
            subst hkj22
            refine e_iload_n X hl 1 rfl dX5_isParted_117 rfl ?_
            obtain ⟨kj24, hkj24, hE⟩ := jn_ex hE
            have hjkj24 : ∀ (v25 : Int) (H : Heap) (locs : List Loc) (ls : Array Slot), RW G dX5 ad hp0 M H locs → lv_has ls 5 [(0, .ref (ad 40)), (2, vI v23), (3, vI v19)] → kj24 v25 = some out → W p l e (rmD 6) s m args below meth c H locs 0 0 (QR below G dX5 ad hp0 args s (some (vI out.1)) out.2) (F0 m 126 ls [vI v25]) := by
              intro v25 H locs ls hM hl hE
              subst hkj24
              refine e_istore_n X hl [(1, vI v25), (0, .ref (ad 40)), (2, vI v23), (3, vI v19)] dX5_isParted_126 rfl (by decide) rfl (fun ls hl => ?_)
              refine e_iload_n X hl 0 rfl dX5_isParted_127 rfl ?_
              obtain ⟨kj26, hkj26, hE⟩ := jn_ex hE
              have hjkj26 : ∀ (M27 : RM) (H : Heap) (locs : List Loc) (ls : Array Slot), RW G dX5 ad hp0 M27 H locs → lv_has ls 5 [(0, .ref (ad 40)), (1, vI v25)] → kj26 M27 = some out → W p l e (rmD 6) s m args below meth c H locs 0 0 (QR below G dX5 ad hp0 args s (some (vI out.1)) out.2) (F0 m 137 ls []) := by
                intro M27 H locs ls hM hl hE
                subst hkj26
                refine e_goto X dX5_isParted_137 rfl ?_
                exact ih M27 v25 _ _ _ hE hM (lv_sub hl [0, 1] rfl) hk
              refine e_if_eq X (w32 v25) rfl hE dX5_isParted_128 rfl (fun hE => ?_) (fun hE => ?_)
              · exact hjkj26 M _ _ _ hM (lv_sub hl [1, 0] rfl) hE
              · refine e_aload_n X hl 1 rfl dX5_isParted_131 rfl ?_
                refine e_iload_n X hl 2 rfl dX5_isParted_132 rfl ?_
                refine e_iload_n X hl 3 rfl dX5_isParted_133 rfl ?_
                obtain ⟨M28, h, hE⟩ := ob_some hE
                refine r_callV0 X hM 40 rfl ck_X5 (rest := []) (met_X5_parts_2 l G ad hp0 M v23 v19 h) (cwV 2 X.ht (lw_V q3517 q3519 qs123 q170 q3520) rfl rfl rfl hd_X5_parts_2 (cxR (by decide) (by decide))) rfl hl.1 rfl (Nat.le_of_ble_eq_true rfl) dX5_isParted_134 ⟨Nat.le_refl _, Nat.le_refl _⟩ (fun H locs hM => ?_)
                exact hjkj26 M28 _ _ _ hM (lv_sub hl [1, 0] rfl) hE
            refine e_if_lt X (w32 v23) rfl hE dX5_isParted_118 rfl (fun hE => ?_) (fun hE => ?_)
            · refine e_iconst X dX5_isParted_125 ?_
              exact hjkj24 0 _ _ _ hM (lv_sub hl [0, 1, 2] rfl) hE
            · refine e_iconst X dX5_isParted_121 ?_
              refine e_goto X dX5_isParted_122 rfl ?_
              exact hjkj24 1 _ _ _ hM (lv_sub hl [0, 1, 2] rfl) hE
          refine e_if_lt X (w32 v21) rfl hE dX5_isParted_107 rfl (fun hE => ?_) (fun hE => ?_)
          · exact hjkj22 v16 _ _ _ hM (lv_sub hl [1, 2, 3] rfl) hE
          · refine e_aload_n X hl 1 rfl dX5_isParted_110 rfl ?_
            refine e_iload X hl 0 rfl dX5_isParted_111 ?_
            obtain ⟨v29, h, hE⟩ := ob_some hE
            refine r_callV1 X hM 40 rfl ck_X5 (rest := []) (met_X5_from l G ad hp0 M v21 h) (cwV 1 X.ht (lw_V q3222 q3224 qs80 q170 q3225) rfl rfl rfl hd_X5_from (cxR (by decide) (by decide))) rfl hl.1 rfl (Nat.le_of_ble_eq_true rfl) dX5_isParted_113 ⟨Nat.le_refl _, Nat.le_refl _⟩ (fun H locs hM => ?_)
            refine e_istore_n X hl [(2, vI v29), (4, vI v21), (0, .ref (ad 40)), (3, vI v19)] dX5_isParted_116 rfl (by decide) rfl (fun ls hl => ?_)
            exact hjkj22 v29 _ _ _ hM (lv_sub hl [2, 0, 3] rfl) hE
        refine e_if_eq X (w32 v19) rfl hE dX5_isParted_91 rfl (fun hE => ?_) (fun hE => ?_)
        · refine e_aload_n X hl 1 rfl dX5_isParted_98 rfl ?_
          refine e_iconst X dX5_isParted_99 ?_
          obtain ⟨v30, h, hE⟩ := ob_some hE
          refine r_callV1 X hM 40 rfl ck_X5 (rest := []) (met_X5_leastRoad l G ad hp0 M (-1) h) (cwV 1 X.ht (lw_V q3513 q3515 qs122 q170 q3516) rfl rfl rfl hd_X5_leastRoad (cxR (by decide) (by decide))) rfl hl.1 rfl (Nat.le_of_ble_eq_true rfl) dX5_isParted_100 ⟨Nat.le_refl _, Nat.le_refl _⟩ (fun H locs hM => ?_)
          exact hjkj20 v30 _ _ _ hM (lv_sub hl [1, 2, 0] rfl) hE
        · refine e_iconst X dX5_isParted_94 ?_
          refine e_goto X dX5_isParted_95 rfl ?_
          exact hjkj20 (-1) _ _ _ hM (lv_sub hl [1, 2, 0] rfl) hE
      refine e_if_lt X (w32 v16) rfl hE dX5_isParted_81 rfl (fun hE => ?_) (fun hE => ?_)
      · refine e_iconst X dX5_isParted_88 ?_
        exact hjkj18 0 _ _ _ hM (lv_sub hl [0, 1] rfl) hE
      · refine e_iconst X dX5_isParted_84 ?_
        refine e_goto X dX5_isParted_85 rfl ?_
        exact hjkj18 1 _ _ _ hM (lv_sub hl [0, 1] rfl) hE
theorem wb_X5_isParted {p : Program} {l : Launch} {e : Env} {s : State} {m : MethodId} {args : Array Value} {below : List Frame} {meth : Method} {c : Code} {G : GG} {ad : Nat → Nat} {hp0 : HP} (X : CX p s m args meth c cX5_isParted 5 RX5 (some .boolean) G) {N : Nat} {M : RM}   {out : (Int × RM)} (hE : f_X5_isParted N M = some out) {H : Heap} {locs : List Loc} {ls : Array Slot} (hM : RW G dX5 ad hp0 M H locs) (hl : lv_has ls 5 [(0, .ref (ad 40))]) : W p l e (rmD 6) s m args below meth c H locs 0 0 (QR below G dX5 ad hp0 args s (some (vI out.1)) out.2) (F0 m 0 ls []) := by
  unfold f_X5_isParted at hE
  refine e_aload_n X hl 0 rfl dX5_isParted_0 rfl ?_
  refine e_iconst X dX5_isParted_1 ?_
  refine r_putI X hM ck_X5 40 38 rfl rfl (by decide) q3072 rfl rfl hE rfl dX5_isParted_2 (fun M1 hE H locs hM => ?_)
  refine e_aload_n X hl 0 rfl dX5_isParted_5 rfl ?_
  obtain ⟨v2, M3, h, hE⟩ := ob2_some hE
  refine r_callV1 X hM 40 rfl ck_X5 (rest := []) (met_X5_flows l G ad hp0 M1 h) (cwV 0 X.ht (lw_V q3310 q3312 qs94 q170 q3313) rfl rfl rfl hd_X5_flows (cxR (by decide) (by decide))) rfl hl.1 rfl (Nat.le_of_ble_eq_true rfl) dX5_isParted_6 ⟨Nat.le_refl _, Nat.le_refl _⟩ (fun H locs hM => ?_)
  refine e_if_ne X (w32 v2) rfl hE dX5_isParted_9 rfl (fun hE => ?_) (fun hE => ?_)
  · refine e_iconst X dX5_isParted_14 ?_
    refine e_istore_n X hl [(1, vI 0), (0, .ref (ad 40))] dX5_isParted_15 rfl (by decide) rfl (fun ls hl => ?_)
    refine wl_X5_isParted_16 X _ M3 0 _ _ _ hE hM (lv_sub hl [1, 0] rfl) (fun M8 v9 H locs ls hM hl hE => ?_)
    refine e_iconst X dX5_isParted_44 ?_
    refine e_istore_n X hl [(1, vI 1), (0, .ref (ad 40))] dX5_isParted_45 rfl (by decide) rfl (fun ls hl => ?_)
    refine wl_X5_isParted_46 X _ M8 1 _ _ _ hE hM (lv_sub hl [1, 0] rfl) (fun M31 v32 H locs ls hM hl hE => ?_)
    refine e_iconst X dX5_isParted_140 ?_
    cases hE
    exact r_zret (x := 1) X hM rfl dX5_isParted_141
  · refine e_iconst X dX5_isParted_12 ?_
    cases hE
    exact r_zret (x := 0) X hM rfl dX5_isParted_13
theorem met_X5_isParted (l : Launch) (G : GG) (ad : Nat → Nat) (hp0 : HP) {N : Nat} (M : RM)   {out : (Int × RM)} (hE : f_X5_isParted N M = some out) : MR l yX5_isParted (ws_ yX5_isParted cX5_isParted 5 (some .boolean)) 6 G dX5 ad hp0 [.ref (ad 40)] M (some (vI out.1)) out.2 :=
  MR.of (by decide) (Nat.le_of_ble_eq_true rfl) rfl (fun p e s m below meth c ls X hM hl => wb_X5_isParted X hE hM hl)
def f_X5_parts (N : Nat) (M : RM)  : Option (Int × RM) :=
  ob2 (f_X5_isParted N M) fun v1 M2 => if w32 v1 = 0 then (some ((-3), M2)) else (some (M2 40 38, M2))
theorem hd_X5_parts : yX5_parts.cls = RX5 ∧ yX5_parts.cls ≠ "java/lang/invoke/MethodHandle" ∧ yX5_parts.cls ≠ "java/lang/invoke/VarHandle" ∧ (parseMethodDescriptor yX5_parts.desc).map (fun d => d.parameters.length) = some 0 := by decide +kernel
theorem wb_X5_parts {p : Program} {l : Launch} {e : Env} {s : State} {m : MethodId} {args : Array Value} {below : List Frame} {meth : Method} {c : Code} {G : GG} {ad : Nat → Nat} {hp0 : HP} (X : CX p s m args meth c cX5_parts 1 RX5 (some .int) G) {N : Nat} {M : RM}   {out : (Int × RM)} (hE : f_X5_parts N M = some out) {H : Heap} {locs : List Loc} {ls : Array Slot} (hM : RW G dX5 ad hp0 M H locs) (hl : lv_has ls 1 [(0, .ref (ad 40))]) : W p l e (rmD 7) s m args below meth c H locs 0 0 (QR below G dX5 ad hp0 args s (some (vI out.1)) out.2) (F0 m 0 ls []) := by
  unfold f_X5_parts at hE
  refine e_aload_n X hl 0 rfl dX5_parts_0 rfl ?_
  obtain ⟨v1, M2, h, hE⟩ := ob2_some hE
  refine r_callV1 X hM 40 rfl ck_X5 (rest := []) (met_X5_isParted l G ad hp0 M h) (cwV 0 X.ht (lw_V q3509 q3511 qs121 q170 q3512) rfl rfl rfl hd_X5_isParted (cxR (by decide) (by decide))) rfl hl.1 rfl (Nat.le_of_ble_eq_true rfl) dX5_parts_1 ⟨Nat.le_refl _, Nat.le_refl _⟩ (fun H locs hM => ?_)
  refine e_if_eq X (w32 v1) rfl hE dX5_parts_4 rfl (fun hE => ?_) (fun hE => ?_)
  · refine e_bipush X dX5_parts_14 (by decide) ?_
    cases hE
    exact r_zret (x := (-3)) X hM rfl dX5_parts_16
  · refine e_aload_n X hl 0 rfl dX5_parts_7 rfl ?_
    refine r_getI X hM ck_X5 40 38 rfl rfl (by decide) q3072 rfl dX5_parts_8 ?_
    refine e_goto X dX5_parts_11 rfl ?_
    cases hE
    exact r_zret X hM rfl dX5_parts_16
theorem met_X5_parts (l : Launch) (G : GG) (ad : Nat → Nat) (hp0 : HP) {N : Nat} (M : RM)   {out : (Int × RM)} (hE : f_X5_parts N M = some out) : MR l yX5_parts (ws_ yX5_parts cX5_parts 1 (some .int)) 7 G dX5 ad hp0 [.ref (ad 40)] M (some (vI out.1)) out.2 :=
  MR.of (by decide) (Nat.le_of_ble_eq_true rfl) rfl (fun p e s m below meth c ls X hM hl => wb_X5_parts X hE hM hl)
def f_X5_part (N : Nat) (M : RM) (a1 : Int) (a2 : Int) : Option (Int × RM) :=
  ob (f_X5_in M (w32 a2) 0 3) fun v1 => if ¬ w32 v1 = 0 then (ob2 (f_X5_isParted N M) fun v2 M3 => if ¬ w32 v2 = 0 then (ob (f_X5_in M3 (w32 a1) 0 (w32 ((M3 40 38) - 1))) fun v4 => if ¬ w32 v4 = 0 then (if 4 ≤ w32 a2 then (ob (gA 480 M3 39 ((12 * a1) + 1)) fun v5 => if w32 v5 ≤ w32 (a2 - 10) then (some ((-5), M3)) else (ob (gA 480 M3 39 ((((12 * a1) + 4) + a2) - 10)) fun v6 => some (v6, M3))) else (ob (gA 480 M3 39 ((12 * a1) + a2)) fun v7 => some (v7, M3))) else (some ((-1), M3))) else (if 0 ≤ w32 a1 then (some ((-3), M3)) else (some ((-1), M3)))) else (ob (f_X5_in M (w32 a2) 10 17) fun v8 => if ¬ w32 v8 = 0 then (ob2 (f_X5_isParted N M) fun v9 M10 => if ¬ w32 v9 = 0 then (ob (f_X5_in M10 (w32 a1) 0 (w32 ((M10 40 38) - 1))) fun v11 => if ¬ w32 v11 = 0 then (if 4 ≤ w32 a2 then (ob (gA 480 M10 39 ((12 * a1) + 1)) fun v12 => if w32 v12 ≤ w32 (a2 - 10) then (some ((-5), M10)) else (ob (gA 480 M10 39 ((((12 * a1) + 4) + a2) - 10)) fun v13 => some (v13, M10))) else (ob (gA 480 M10 39 ((12 * a1) + a2)) fun v14 => some (v14, M10))) else (some ((-1), M10))) else (if 0 ≤ w32 a1 then (some ((-3), M10)) else (some ((-1), M10)))) else (some ((-1), M)))
theorem hd_X5_part : yX5_part.cls = RX5 ∧ yX5_part.cls ≠ "java/lang/invoke/MethodHandle" ∧ yX5_part.cls ≠ "java/lang/invoke/VarHandle" ∧ (parseMethodDescriptor yX5_part.desc).map (fun d => d.parameters.length) = some 2 := by decide +kernel
theorem wb_X5_part {p : Program} {l : Launch} {e : Env} {s : State} {m : MethodId} {args : Array Value} {below : List Frame} {meth : Method} {c : Code} {G : GG} {ad : Nat → Nat} {hp0 : HP} (X : CX p s m args meth c cX5_part 3 RX5 (some .int) G) {N : Nat} {M : RM} {a1 : Int} {a2 : Int}   {out : (Int × RM)} (hE : f_X5_part N M a1 a2 = some out) {H : Heap} {locs : List Loc} {ls : Array Slot} (hM : RW G dX5 ad hp0 M H locs) (hl : lv_has ls 3 [(0, .ref (ad 40)), (1, vI a1), (2, vI a2)]) : W p l e (rmD 7) s m args below meth c H locs 0 0 (QR below G dX5 ad hp0 args s (some (vI out.1)) out.2) (F0 m 0 ls []) := by
  unfold f_X5_part at hE
  refine e_iload_n X hl 2 rfl dX5_part_0 rfl ?_
  refine e_i2l X dX5_part_1 ?_
  refine e_lconst X 0 dX5_part_2 (by decide) ?_
  refine e_ldc2 X 3 q3472 (by decide) dX5_part_3 ?_
  obtain ⟨v1, h, hE⟩ := ob_some hE
  refine r_callS1 X hM (rest := []) (met_X5_in l G ad hp0 M (w32 a2) 0 3 h) (va_cwS 3 X.ht (lw_S q3172 q3173 q170 q3174) rfl rfl rfl hd_X5_in (cxR (by decide) (by decide))) rfl hl.1 rfl (Nat.le_of_ble_eq_true rfl) dX5_part_6 ⟨Nat.le_refl _, Nat.le_refl _⟩ (fun H locs hM => ?_)
  refine e_if_ne X (w32 v1) rfl hE dX5_part_9 rfl (fun hE => ?_) (fun hE => ?_)
  · refine e_aload_n X hl 0 rfl dX5_part_28 rfl ?_
    obtain ⟨v2, M3, h, hE⟩ := ob2_some hE
    refine r_callV1 X hM 40 rfl ck_X5 (rest := []) (met_X5_isParted l G ad hp0 M h) (cwV 0 X.ht (lw_V q3509 q3511 qs121 q170 q3512) rfl rfl rfl hd_X5_isParted (cxR (by decide) (by decide))) rfl hl.1 rfl (Nat.le_of_ble_eq_true rfl) dX5_part_29 ⟨Nat.le_refl _, Nat.le_refl _⟩ (fun H locs hM => ?_)
    refine e_if_ne X (w32 v2) rfl hE dX5_part_32 rfl (fun hE => ?_) (fun hE => ?_)
    · refine e_iload_n X hl 1 rfl dX5_part_46 rfl ?_
      refine e_i2l X dX5_part_47 ?_
      refine e_lconst X 0 dX5_part_48 (by decide) ?_
      refine e_aload_n X hl 0 rfl dX5_part_49 rfl ?_
      refine r_getI X hM ck_X5 40 38 rfl rfl (by decide) q3072 rfl dX5_part_50 ?_
      refine e_iconst X dX5_part_53 ?_
      refine e_isub X dX5_part_54 ?_
      refine e_i2l X dX5_part_55 ?_
      obtain ⟨v4, h, hE⟩ := ob_some hE
      refine r_callS1 X hM (rest := []) (met_X5_in l G ad hp0 M3 (w32 a1) 0 (w32 ((M3 40 38) - 1)) h) (va_cwS 3 X.ht (lw_S q3172 q3173 q170 q3174) rfl rfl rfl hd_X5_in (cxR (by decide) (by decide))) rfl hl.1 rfl (Nat.le_of_ble_eq_true rfl) dX5_part_56 ⟨Nat.le_refl _, Nat.le_refl _⟩ (fun H locs hM => ?_)
      refine e_if_ne X (w32 v4) rfl hE dX5_part_59 rfl (fun hE => ?_) (fun hE => ?_)
      · refine e_iload_n X hl 2 rfl dX5_part_64 rfl ?_
        refine e_iconst X dX5_part_65 ?_
        refine e_icmp_ge X (w32 a2) 4 rfl (by decide) hE dX5_part_66 rfl (fun hE => ?_) (fun hE => ?_)
        · refine e_iload_n X hl 2 rfl dX5_part_81 rfl ?_
          refine e_bipush X dX5_part_82 (by decide) ?_
          refine e_isub X dX5_part_84 ?_
          refine e_aload_n X hl 0 rfl dX5_part_85 rfl ?_
          refine r_getR X hM ck_X5 40 39 rfl rfl (by decide) q3073 rfl dX5_part_86 ?_
          refine e_bipush X dX5_part_89 (by decide) ?_
          refine e_iload_n X hl 1 rfl dX5_part_91 rfl ?_
          refine e_imul X dX5_part_92 ?_
          refine e_iconst X dX5_part_93 ?_
          refine e_iadd X dX5_part_94 ?_
          refine r_iald X hM 39 rfl (Nat.le_of_ble_eq_true rfl) hE dX5_part_95 (fun v5 hE => ?_)
          refine e_icmp_ge X (w32 (a2 - 10)) (w32 v5) rfl rfl hE dX5_part_96 rfl (fun hE => ?_) (fun hE => ?_)
          · refine e_bipush X dX5_part_118 (by decide) ?_
            cases hE
            exact r_zret (x := (-5)) X hM rfl dX5_part_120
          · refine e_aload_n X hl 0 rfl dX5_part_99 rfl ?_
            refine r_getR X hM ck_X5 40 39 rfl rfl (by decide) q3073 rfl dX5_part_100 ?_
            refine e_bipush X dX5_part_103 (by decide) ?_
            refine e_iload_n X hl 1 rfl dX5_part_105 rfl ?_
            refine e_imul X dX5_part_106 ?_
            refine e_iconst X dX5_part_107 ?_
            refine e_iadd X dX5_part_108 ?_
            refine e_iload_n X hl 2 rfl dX5_part_109 rfl ?_
            refine e_iadd X dX5_part_110 ?_
            refine e_bipush X dX5_part_111 (by decide) ?_
            refine e_isub X dX5_part_113 ?_
            refine r_iald X hM 39 rfl (Nat.le_of_ble_eq_true rfl) hE dX5_part_114 (fun v6 hE => ?_)
            refine e_goto X dX5_part_115 rfl ?_
            cases hE
            exact r_zret X hM rfl dX5_part_120
        · refine e_aload_n X hl 0 rfl dX5_part_69 rfl ?_
          refine r_getR X hM ck_X5 40 39 rfl rfl (by decide) q3073 rfl dX5_part_70 ?_
          refine e_bipush X dX5_part_73 (by decide) ?_
          refine e_iload_n X hl 1 rfl dX5_part_75 rfl ?_
          refine e_imul X dX5_part_76 ?_
          refine e_iload_n X hl 2 rfl dX5_part_77 rfl ?_
          refine e_iadd X dX5_part_78 ?_
          refine r_iald X hM 39 rfl (Nat.le_of_ble_eq_true rfl) hE dX5_part_79 (fun v7 hE => ?_)
          cases hE
          exact r_zret X hM rfl dX5_part_80
      · refine e_iconst X dX5_part_62 ?_
        cases hE
        exact r_zret (x := (-1)) X hM rfl dX5_part_63
    · refine e_iload_n X hl 1 rfl dX5_part_35 rfl ?_
      refine e_if_ge X (w32 a1) rfl hE dX5_part_36 rfl (fun hE => ?_) (fun hE => ?_)
      · refine e_bipush X dX5_part_43 (by decide) ?_
        cases hE
        exact r_zret (x := (-3)) X hM rfl dX5_part_45
      · refine e_iconst X dX5_part_39 ?_
        refine e_goto X dX5_part_40 rfl ?_
        cases hE
        exact r_zret (x := (-1)) X hM rfl dX5_part_45
  · refine e_iload_n X hl 2 rfl dX5_part_12 rfl ?_
    refine e_i2l X dX5_part_13 ?_
    refine e_ldc2 X 10 q3525 (by decide) dX5_part_14 ?_
    refine e_ldc2 X 17 q3526 (by decide) dX5_part_17 ?_
    obtain ⟨v8, h, hE⟩ := ob_some hE
    refine r_callS1 X hM (rest := []) (met_X5_in l G ad hp0 M (w32 a2) 10 17 h) (va_cwS 3 X.ht (lw_S q3172 q3173 q170 q3174) rfl rfl rfl hd_X5_in (cxR (by decide) (by decide))) rfl hl.1 rfl (Nat.le_of_ble_eq_true rfl) dX5_part_20 ⟨Nat.le_refl _, Nat.le_refl _⟩ (fun H locs hM => ?_)
    refine e_if_ne X (w32 v8) rfl hE dX5_part_23 rfl (fun hE => ?_) (fun hE => ?_)
    · refine e_aload_n X hl 0 rfl dX5_part_28 rfl ?_
      obtain ⟨v9, M10, h, hE⟩ := ob2_some hE
      refine r_callV1 X hM 40 rfl ck_X5 (rest := []) (met_X5_isParted l G ad hp0 M h) (cwV 0 X.ht (lw_V q3509 q3511 qs121 q170 q3512) rfl rfl rfl hd_X5_isParted (cxR (by decide) (by decide))) rfl hl.1 rfl (Nat.le_of_ble_eq_true rfl) dX5_part_29 ⟨Nat.le_refl _, Nat.le_refl _⟩ (fun H locs hM => ?_)
      refine e_if_ne X (w32 v9) rfl hE dX5_part_32 rfl (fun hE => ?_) (fun hE => ?_)
      · refine e_iload_n X hl 1 rfl dX5_part_46 rfl ?_
        refine e_i2l X dX5_part_47 ?_
        refine e_lconst X 0 dX5_part_48 (by decide) ?_
        refine e_aload_n X hl 0 rfl dX5_part_49 rfl ?_
        refine r_getI X hM ck_X5 40 38 rfl rfl (by decide) q3072 rfl dX5_part_50 ?_
        refine e_iconst X dX5_part_53 ?_
        refine e_isub X dX5_part_54 ?_
        refine e_i2l X dX5_part_55 ?_
        obtain ⟨v11, h, hE⟩ := ob_some hE
        refine r_callS1 X hM (rest := []) (met_X5_in l G ad hp0 M10 (w32 a1) 0 (w32 ((M10 40 38) - 1)) h) (va_cwS 3 X.ht (lw_S q3172 q3173 q170 q3174) rfl rfl rfl hd_X5_in (cxR (by decide) (by decide))) rfl hl.1 rfl (Nat.le_of_ble_eq_true rfl) dX5_part_56 ⟨Nat.le_refl _, Nat.le_refl _⟩ (fun H locs hM => ?_)
        refine e_if_ne X (w32 v11) rfl hE dX5_part_59 rfl (fun hE => ?_) (fun hE => ?_)
        · refine e_iload_n X hl 2 rfl dX5_part_64 rfl ?_
          refine e_iconst X dX5_part_65 ?_
          refine e_icmp_ge X (w32 a2) 4 rfl (by decide) hE dX5_part_66 rfl (fun hE => ?_) (fun hE => ?_)
          · refine e_iload_n X hl 2 rfl dX5_part_81 rfl ?_
            refine e_bipush X dX5_part_82 (by decide) ?_
            refine e_isub X dX5_part_84 ?_
            refine e_aload_n X hl 0 rfl dX5_part_85 rfl ?_
            refine r_getR X hM ck_X5 40 39 rfl rfl (by decide) q3073 rfl dX5_part_86 ?_
            refine e_bipush X dX5_part_89 (by decide) ?_
            refine e_iload_n X hl 1 rfl dX5_part_91 rfl ?_
            refine e_imul X dX5_part_92 ?_
            refine e_iconst X dX5_part_93 ?_
            refine e_iadd X dX5_part_94 ?_
            refine r_iald X hM 39 rfl (Nat.le_of_ble_eq_true rfl) hE dX5_part_95 (fun v12 hE => ?_)
            refine e_icmp_ge X (w32 (a2 - 10)) (w32 v12) rfl rfl hE dX5_part_96 rfl (fun hE => ?_) (fun hE => ?_)
            · refine e_bipush X dX5_part_118 (by decide) ?_
              cases hE
              exact r_zret (x := (-5)) X hM rfl dX5_part_120
            · refine e_aload_n X hl 0 rfl dX5_part_99 rfl ?_
              refine r_getR X hM ck_X5 40 39 rfl rfl (by decide) q3073 rfl dX5_part_100 ?_
              refine e_bipush X dX5_part_103 (by decide) ?_
              refine e_iload_n X hl 1 rfl dX5_part_105 rfl ?_
              refine e_imul X dX5_part_106 ?_
              refine e_iconst X dX5_part_107 ?_
              refine e_iadd X dX5_part_108 ?_
              refine e_iload_n X hl 2 rfl dX5_part_109 rfl ?_
              refine e_iadd X dX5_part_110 ?_
              refine e_bipush X dX5_part_111 (by decide) ?_
              refine e_isub X dX5_part_113 ?_
              refine r_iald X hM 39 rfl (Nat.le_of_ble_eq_true rfl) hE dX5_part_114 (fun v13 hE => ?_)
              refine e_goto X dX5_part_115 rfl ?_
              cases hE
              exact r_zret X hM rfl dX5_part_120
          · refine e_aload_n X hl 0 rfl dX5_part_69 rfl ?_
            refine r_getR X hM ck_X5 40 39 rfl rfl (by decide) q3073 rfl dX5_part_70 ?_
            refine e_bipush X dX5_part_73 (by decide) ?_
            refine e_iload_n X hl 1 rfl dX5_part_75 rfl ?_
            refine e_imul X dX5_part_76 ?_
            refine e_iload_n X hl 2 rfl dX5_part_77 rfl ?_
            refine e_iadd X dX5_part_78 ?_
            refine r_iald X hM 39 rfl (Nat.le_of_ble_eq_true rfl) hE dX5_part_79 (fun v14 hE => ?_)
            cases hE
            exact r_zret X hM rfl dX5_part_80
        · refine e_iconst X dX5_part_62 ?_
          cases hE
          exact r_zret (x := (-1)) X hM rfl dX5_part_63
      · refine e_iload_n X hl 1 rfl dX5_part_35 rfl ?_
        refine e_if_ge X (w32 a1) rfl hE dX5_part_36 rfl (fun hE => ?_) (fun hE => ?_)
        · refine e_bipush X dX5_part_43 (by decide) ?_
          cases hE
          exact r_zret (x := (-3)) X hM rfl dX5_part_45
        · refine e_iconst X dX5_part_39 ?_
          refine e_goto X dX5_part_40 rfl ?_
          cases hE
          exact r_zret (x := (-1)) X hM rfl dX5_part_45
    · refine e_iconst X dX5_part_26 ?_
      cases hE
      exact r_zret (x := (-1)) X hM rfl dX5_part_27
theorem met_X5_part (l : Launch) (G : GG) (ad : Nat → Nat) (hp0 : HP) {N : Nat} (M : RM) (a1 : Int) (a2 : Int)  {out : (Int × RM)} (hE : f_X5_part N M a1 a2 = some out) : MR l yX5_part (ws_ yX5_part cX5_part 3 (some .int)) 7 G dX5 ad hp0 [.ref (ad 40), vI a1, vI a2] M (some (vI out.1)) out.2 :=
  MR.of (by decide) (Nat.le_of_ble_eq_true rfl) rfl (fun p e s m below meth c ls X hM hl => wb_X5_part X hE hM hl)
def f_X5_partCost_L32 (N : Nat) (M : RM) (b1 : Int) (k : Int → Int → Option (Int × RM)) : Nat → Int → Int → Option (Int × RM)
  | 0, _, _ => none
  | n + 1, x2, x4 =>
    ob (gA 480 M 39 ((12 * b1) + 1)) fun v4 => if w32 v4 ≤ w32 x4 then (k x2 x4) else (ob (gA 480 M 39 (((12 * b1) + 4) + x4)) fun v5 => ob (gA 25 M 1 v5) fun v6 => jn (x2 + v6) fun v7 => jn (x4 + 1) fun v8 => f_X5_partCost_L32 N M b1 k n v7 v8)
def f_X5_partCost (N : Nat) (M : RM) (a1 : Int) : Option (Int × RM) :=
  ob2 (f_X5_isParted N M) fun v1 M2 => if w32 v1 = 0 then (some ((-9223372036854775808), M2)) else (ob (f_X5_in M2 (w32 a1) 0 (w32 ((M2 40 38) - 1))) fun v3 => if ¬ w32 v3 = 0 then (f_X5_partCost_L32 N M2 a1 (fun (v9 : Int) (v10 : Int) => some (v9, M2)) N 0 0) else (some ((-9223372036854775808), M2)))
theorem hd_X5_partCost : yX5_partCost.cls = RX5 ∧ yX5_partCost.cls ≠ "java/lang/invoke/MethodHandle" ∧ yX5_partCost.cls ≠ "java/lang/invoke/VarHandle" ∧ (parseMethodDescriptor yX5_partCost.desc).map (fun d => d.parameters.length) = some 1 := by decide +kernel
theorem wl_X5_partCost_32 {p : Program} {l : Launch} {e : Env} {s : State} {m : MethodId} {args : Array Value} {below : List Frame} {meth : Method} {c : Code} {G : GG} {ad : Nat → Nat} {hp0 : HP} (X : CX p s m args meth c cX5_partCost 5 RX5 (some .long) G) {N : Nat} {M : RM} {b1 : Int}  {k : Int → Int → Option (Int × RM)} {out : (Int × RM)} : ∀ (n : Nat) (x2 : Int) (x4 : Int) (H : Heap) (locs : List Loc) (ls : Array Slot) (hE : f_X5_partCost_L32 N M b1 k n x2 x4 = some out) (hM : RW G dX5 ad hp0 M H locs) (hl : lv_has ls 5 [(0, .ref (ad 40)), (1, vI b1), (2, vL x2), (4, vI x4)]) (hk : ∀ (x2 : Int) (x4 : Int) (H : Heap) (locs : List Loc) (ls : Array Slot), RW G dX5 ad hp0 M H locs → lv_has ls 5 [(0, .ref (ad 40)), (1, vI b1), (2, vL x2), (4, vI x4)] → k x2 x4 = some out → W p l e (rmD 7) s m args below meth c H locs 0 0 (QR below G dX5 ad hp0 args s (some (vL out.1)) out.2) (F0 m 76 ls [])), W p l e (rmD 7) s m args below meth c H locs 0 0 (QR below G dX5 ad hp0 args s (some (vL out.1)) out.2) (F0 m 32 ls []) := by
  intro n
  induction n with
  | zero =>
    intro x2 x4 H locs ls hE hM hl hk
    unfold f_X5_partCost_L32 at hE
    cases hE
  | succ n ih =>
    intro x2 x4 H locs ls hE hM hl hk
    unfold f_X5_partCost_L32 at hE
    refine e_iload X hl 3 rfl dX5_partCost_32 ?_
    refine e_aload_n X hl 0 rfl dX5_partCost_34 rfl ?_
    refine r_getR X hM ck_X5 40 39 rfl rfl (by decide) q3073 rfl dX5_partCost_35 ?_
    refine e_bipush X dX5_partCost_38 (by decide) ?_
    refine e_iload_n X hl 1 rfl dX5_partCost_40 rfl ?_
    refine e_imul X dX5_partCost_41 ?_
    refine e_iconst X dX5_partCost_42 ?_
    refine e_iadd X dX5_partCost_43 ?_
    refine r_iald X hM 39 rfl (Nat.le_of_ble_eq_true rfl) hE dX5_partCost_44 (fun v4 hE => ?_)
    refine e_icmp_ge X (w32 x4) (w32 v4) rfl rfl hE dX5_partCost_45 rfl (fun hE => ?_) (fun hE => ?_)
    · exact hk x2 x4 _ _ _ hM (lv_sub hl [0, 1, 2, 3] rfl) hE
    · refine e_lload_n X hl 2 rfl dX5_partCost_48 rfl ?_
      refine e_aload_n X hl 0 rfl dX5_partCost_49 rfl ?_
      refine r_getR X hM ck_X5 40 1 rfl rfl (by decide) q3035 rfl dX5_partCost_50 ?_
      refine e_aload_n X hl 0 rfl dX5_partCost_53 rfl ?_
      refine r_getR X hM ck_X5 40 39 rfl rfl (by decide) q3073 rfl dX5_partCost_54 ?_
      refine e_bipush X dX5_partCost_57 (by decide) ?_
      refine e_iload_n X hl 1 rfl dX5_partCost_59 rfl ?_
      refine e_imul X dX5_partCost_60 ?_
      refine e_iconst X dX5_partCost_61 ?_
      refine e_iadd X dX5_partCost_62 ?_
      refine e_iload X hl 3 rfl dX5_partCost_63 ?_
      refine e_iadd X dX5_partCost_65 ?_
      refine r_iald X hM 39 rfl (Nat.le_of_ble_eq_true rfl) hE dX5_partCost_66 (fun v5 hE => ?_)
      refine r_lald X hM 1 rfl (Nat.le_of_ble_eq_true rfl) hE dX5_partCost_67 (fun v6 hE => ?_)
      refine e_ladd X dX5_partCost_68 ?_
      refine e_topl hE (fun v7 hE => ?_)
      refine e_lstore_n X hl [(2, vL v7), (0, .ref (ad 40)), (1, vI b1), (4, vI x4)] dX5_partCost_69 rfl (by decide) rfl (fun ls hl => ?_)
      refine e_iinc X hl 3 hE (fun v8 => [(4, vI v8), (2, vL v7), (0, .ref (ad 40)), (1, vI b1)]) rfl dX5_partCost_70 (by decide) (fun _ => rfl) (fun v8 hE ls hl => ?_)
      refine e_goto X dX5_partCost_73 rfl ?_
      exact ih v7 v8 _ _ _ hE hM (lv_sub hl [2, 3, 1, 0] rfl) hk
theorem wb_X5_partCost {p : Program} {l : Launch} {e : Env} {s : State} {m : MethodId} {args : Array Value} {below : List Frame} {meth : Method} {c : Code} {G : GG} {ad : Nat → Nat} {hp0 : HP} (X : CX p s m args meth c cX5_partCost 5 RX5 (some .long) G) {N : Nat} {M : RM} {a1 : Int}   {out : (Int × RM)} (hE : f_X5_partCost N M a1 = some out) {H : Heap} {locs : List Loc} {ls : Array Slot} (hM : RW G dX5 ad hp0 M H locs) (hl : lv_has ls 5 [(0, .ref (ad 40)), (1, vI a1)]) : W p l e (rmD 7) s m args below meth c H locs 0 0 (QR below G dX5 ad hp0 args s (some (vL out.1)) out.2) (F0 m 0 ls []) := by
  unfold f_X5_partCost at hE
  refine e_aload_n X hl 0 rfl dX5_partCost_0 rfl ?_
  obtain ⟨v1, M2, h, hE⟩ := ob2_some hE
  refine r_callV1 X hM 40 rfl ck_X5 (rest := []) (met_X5_isParted l G ad hp0 M h) (cwV 0 X.ht (lw_V q3509 q3511 qs121 q170 q3512) rfl rfl rfl hd_X5_isParted (cxR (by decide) (by decide))) rfl hl.1 rfl (Nat.le_of_ble_eq_true rfl) dX5_partCost_1 ⟨Nat.le_refl _, Nat.le_refl _⟩ (fun H locs hM => ?_)
  refine e_if_eq X (w32 v1) rfl hE dX5_partCost_4 rfl (fun hE => ?_) (fun hE => ?_)
  · refine e_ldc2 X (-9223372036854775808) q3250 (by decide) dX5_partCost_23 ?_
    cases hE
    exact r_lret X hM dX5_partCost_26
  · refine e_iload_n X hl 1 rfl dX5_partCost_7 rfl ?_
    refine e_i2l X dX5_partCost_8 ?_
    refine e_lconst X 0 dX5_partCost_9 (by decide) ?_
    refine e_aload_n X hl 0 rfl dX5_partCost_10 rfl ?_
    refine r_getI X hM ck_X5 40 38 rfl rfl (by decide) q3072 rfl dX5_partCost_11 ?_
    refine e_iconst X dX5_partCost_14 ?_
    refine e_isub X dX5_partCost_15 ?_
    refine e_i2l X dX5_partCost_16 ?_
    obtain ⟨v3, h, hE⟩ := ob_some hE
    refine r_callS1 X hM (rest := []) (met_X5_in l G ad hp0 M2 (w32 a1) 0 (w32 ((M2 40 38) - 1)) h) (va_cwS 3 X.ht (lw_S q3172 q3173 q170 q3174) rfl rfl rfl hd_X5_in (cxR (by decide) (by decide))) rfl hl.1 rfl (Nat.le_of_ble_eq_true rfl) dX5_partCost_17 ⟨Nat.le_refl _, Nat.le_refl _⟩ (fun H locs hM => ?_)
    refine e_if_ne X (w32 v3) rfl hE dX5_partCost_20 rfl (fun hE => ?_) (fun hE => ?_)
    · refine e_lconst X 0 dX5_partCost_27 (by decide) ?_
      refine e_lstore_n X hl [(2, vL 0), (0, .ref (ad 40)), (1, vI a1)] dX5_partCost_28 rfl (by decide) rfl (fun ls hl => ?_)
      refine e_iconst X dX5_partCost_29 ?_
      refine e_istore X hl [(4, vI 0), (2, vL 0), (0, .ref (ad 40)), (1, vI a1)] dX5_partCost_30 (by decide) rfl (fun ls hl => ?_)
      refine wl_X5_partCost_32 X _ 0 0 _ _ _ hE hM (lv_sub hl [2, 3, 1, 0] rfl) (fun v9 v10 H locs ls hM hl hE => ?_)
      refine e_lload_n X hl 2 rfl dX5_partCost_76 rfl ?_
      cases hE
      exact r_lret X hM dX5_partCost_77
    · refine e_ldc2 X (-9223372036854775808) q3250 (by decide) dX5_partCost_23 ?_
      cases hE
      exact r_lret X hM dX5_partCost_26
theorem met_X5_partCost (l : Launch) (G : GG) (ad : Nat → Nat) (hp0 : HP) {N : Nat} (M : RM) (a1 : Int)  {out : (Int × RM)} (hE : f_X5_partCost N M a1 = some out) : MR l yX5_partCost (ws_ yX5_partCost cX5_partCost 5 (some .long)) 7 G dX5 ad hp0 [.ref (ad 40), vI a1] M (some (vL out.1)) out.2 :=
  MR.of (by decide) (Nat.le_of_ble_eq_true rfl) rfl (fun p e s m below meth c ls X hM hl => wb_X5_partCost X hE hM hl)
def f_X5_writes (M : RM) (a1 : Int) : Option RM :=
  jn (up2 M 40 10 ((M 40 10) + 1)) fun M1 => ob (sA 240 M1 11 (M 40 10) a1) fun M2 => some M2
theorem hd_X5_writes : yX5_writes.cls = RX5 ∧ yX5_writes.cls ≠ "java/lang/invoke/MethodHandle" ∧ yX5_writes.cls ≠ "java/lang/invoke/VarHandle" ∧ (parseMethodDescriptor yX5_writes.desc).map (fun d => d.parameters.length) = some 1 := by decide +kernel
theorem wb_X5_writes {p : Program} {l : Launch} {e : Env} {s : State} {m : MethodId} {args : Array Value} {below : List Frame} {meth : Method} {c : Code} {G : GG} {ad : Nat → Nat} {hp0 : HP} (X : CX p s m args meth c cX5_writes 2 RX5 none G) {M : RM} {a1 : Int}   {out : RM} (hE : f_X5_writes M a1 = some out) {H : Heap} {locs : List Loc} {ls : Array Slot} (hM : RW G dX5 ad hp0 M H locs) (hl : lv_has ls 2 [(0, .ref (ad 40)), (1, vI a1)]) : W p l e (rmD 0) s m args below meth c H locs 0 0 (QR below G dX5 ad hp0 args s none out) (F0 m 0 ls []) := by
  unfold f_X5_writes at hE
  refine e_aload_n X hl 0 rfl dX5_writes_0 rfl ?_
  refine r_getR X hM ck_X5 40 11 rfl rfl (by decide) q3045 rfl dX5_writes_1 ?_
  refine e_aload_n X hl 0 rfl dX5_writes_4 rfl ?_
  refine e_dup X dX5_writes_5 rfl ?_
  refine r_getI X hM ck_X5 40 10 rfl rfl (by decide) q3044 rfl dX5_writes_6 ?_
  refine e_dup_x1 X dX5_writes_9 rfl rfl ?_
  refine e_iconst X dX5_writes_10 ?_
  refine e_iadd X dX5_writes_11 ?_
  refine r_putI X hM ck_X5 40 10 rfl rfl (by decide) q3044 rfl rfl hE rfl dX5_writes_12 (fun M1 hE H locs hM => ?_)
  refine e_iload_n X hl 1 rfl dX5_writes_15 rfl ?_
  refine r_iast X hM 11 rfl (Nat.le_of_ble_eq_true rfl) hE dX5_writes_16 (fun M2 hE H locs hM => ?_)
  cases hE
  exact r_vret X hM dX5_writes_17
theorem met_X5_writes (l : Launch) (G : GG) (ad : Nat → Nat) (hp0 : HP) (M : RM) (a1 : Int)  {out : RM} (hE : f_X5_writes M a1 = some out) : MR l yX5_writes (ws_ yX5_writes cX5_writes 2 none) 0 G dX5 ad hp0 [.ref (ad 40), vI a1] M none out :=
  MR.of (by decide) (Nat.le_of_ble_eq_true rfl) rfl (fun p e s m below meth c ls X hM hl => wb_X5_writes X hE hM hl)
def f_X5_spell_L17 (N : Nat)  (k : RM → Int → Option (Int × RM)) : Nat → RM → Int → Option (Int × RM)
  | 0, _, _ => none
  | n + 1, M, x1 =>
    ob (f_X5_many M) fun v4 => if w32 v4 ≤ w32 x1 then (k M x1) else (ob (gA 25 M 14 x1) fun v5 => jn (fun (M7 : RM) => jn (x1 + 1) fun v8 => f_X5_spell_L17 N  k n M7 v8) fun kj6 => if ¬ w32 v5 = 0 then (jn (fun (M10 : RM) => ob (f_X5_from M10 x1) fun v11 => ob (f_X5_writes M10 (48 + v11)) fun M12 => ob (f_X5_writes M12 62) fun M13 => ob (f_X5_to M13 x1) fun v14 => ob (f_X5_writes M13 (48 + v14)) fun M15 => ob (f_X5_writes M15 42) fun M16 => ob (gA 25 M16 14 x1) fun v17 => jn (fun (M19 : RM) => ob (gA 25 M19 14 x1) fun v20 => ob (f_X5_writes M19 (48 + (iRem v20 10))) fun M21 => kj6 M21) fun kj18 => if w32 v17 ≤ 9 then (kj18 M16) else (ob (gA 25 M16 14 x1) fun v22 => ob (f_X5_writes M16 (48 + (iDiv v22 10))) fun M23 => kj18 M23)) fun kj9 => if w32 (M 40 10) ≤ 0 then (kj9 M) else (ob (f_X5_writes M 32) fun M24 => kj9 M24)) else (kj6 M))
def f_X5_spell (N : Nat) (M : RM)  : Option (Int × RM) :=
  ob2 (f_X5_flows N M) fun v1 M2 => if ¬ w32 v1 = 0 then (jn (up2 M2 40 10 0) fun M3 => f_X5_spell_L17 N  (fun (M25 : RM) (v26 : Int) => some (M25 40 10, M25)) N M3 0) else (some ((-3), M2))
theorem hd_X5_spell : yX5_spell.cls = RX5 ∧ yX5_spell.cls ≠ "java/lang/invoke/MethodHandle" ∧ yX5_spell.cls ≠ "java/lang/invoke/VarHandle" ∧ (parseMethodDescriptor yX5_spell.desc).map (fun d => d.parameters.length) = some 0 := by decide +kernel
theorem wl_X5_spell_17 {p : Program} {l : Launch} {e : Env} {s : State} {m : MethodId} {args : Array Value} {below : List Frame} {meth : Method} {c : Code} {G : GG} {ad : Nat → Nat} {hp0 : HP} (X : CX p s m args meth c cX5_spell 2 RX5 (some .int) G) {N : Nat}   {k : RM → Int → Option (Int × RM)} {out : (Int × RM)} : ∀ (n : Nat) (M : RM) (x1 : Int) (H : Heap) (locs : List Loc) (ls : Array Slot) (hE : f_X5_spell_L17 N  k n M x1 = some out) (hM : RW G dX5 ad hp0 M H locs) (hl : lv_has ls 2 [(0, .ref (ad 40)), (1, vI x1)]) (hk : ∀ (M : RM) (x1 : Int) (H : Heap) (locs : List Loc) (ls : Array Slot), RW G dX5 ad hp0 M H locs → lv_has ls 2 [(0, .ref (ad 40)), (1, vI x1)] → k M x1 = some out → W p l e (rmD 6) s m args below meth c H locs 0 0 (QR below G dX5 ad hp0 args s (some (vI out.1)) out.2) (F0 m 135 ls [])), W p l e (rmD 6) s m args below meth c H locs 0 0 (QR below G dX5 ad hp0 args s (some (vI out.1)) out.2) (F0 m 17 ls []) := by
  intro n
  induction n with
  | zero =>
    intro M x1 H locs ls hE hM hl hk
    unfold f_X5_spell_L17 at hE
    cases hE
  | succ n ih =>
    intro M x1 H locs ls hE hM hl hk
    unfold f_X5_spell_L17 at hE
    refine e_iload_n X hl 1 rfl dX5_spell_17 rfl ?_
    refine e_aload_n X hl 0 rfl dX5_spell_18 rfl ?_
    obtain ⟨v4, h, hE⟩ := ob_some hE
    refine r_callV1 X hM 40 rfl ck_X5 (rest := [vI x1]) (met_X5_many l G ad hp0 M h) (cwV 0 X.ht (lw_V q3206 q3208 qs77 q170 q3209) rfl rfl rfl hd_X5_many (cxR (by decide) (by decide))) rfl hl.1 rfl (Nat.le_of_ble_eq_true rfl) dX5_spell_19 ⟨Nat.le_refl _, Nat.le_refl _⟩ (fun H locs hM => ?_)
    refine e_icmp_ge X (w32 x1) (w32 v4) rfl rfl hE dX5_spell_22 rfl (fun hE => ?_) (fun hE => ?_)
    · exact hk M x1 _ _ _ hM (lv_sub hl [0, 1] rfl) hE
    · refine e_aload_n X hl 0 rfl dX5_spell_25 rfl ?_
      refine r_getR X hM ck_X5 40 14 rfl rfl (by decide) q3048 rfl dX5_spell_26 ?_
      refine e_iload_n X hl 1 rfl dX5_spell_29 rfl ?_
      refine r_iald X hM 14 rfl (Nat.le_of_ble_eq_true rfl) hE dX5_spell_30 (fun v5 hE => ?_)
      obtain ⟨kj6, hkj6, hE⟩ := jn_ex hE
      have hjkj6 : ∀ (M7 : RM) (H : Heap) (locs : List Loc) (ls : Array Slot), RW G dX5 ad hp0 M7 H locs → lv_has ls 2 [(0, .ref (ad 40)), (1, vI x1)] → kj6 M7 = some out → W p l e (rmD 6) s m args below meth c H locs 0 0 (QR below G dX5 ad hp0 args s (some (vI out.1)) out.2) (F0 m 129 ls []) := by
        intro M7 H locs ls hM hl hE
        subst hkj6
        refine e_iinc X hl 1 hE (fun v8 => [(1, vI v8), (0, .ref (ad 40))]) rfl dX5_spell_129 (by decide) (fun _ => rfl) (fun v8 hE ls hl => ?_)
        refine e_goto X dX5_spell_132 rfl ?_
        exact ih M7 v8 _ _ _ hE hM (lv_sub hl [1, 0] rfl) hk
      refine e_if_ne X (w32 v5) rfl hE dX5_spell_31 rfl (fun hE => ?_) (fun hE => ?_)
      · refine e_aload_n X hl 0 rfl dX5_spell_37 rfl ?_
        refine r_getI X hM ck_X5 40 10 rfl rfl (by decide) q3044 rfl dX5_spell_38 ?_
        obtain ⟨kj9, hkj9, hE⟩ := jn_ex hE
        have hjkj9 : ∀ (M10 : RM) (H : Heap) (locs : List Loc) (ls : Array Slot), RW G dX5 ad hp0 M10 H locs → lv_has ls 2 [(0, .ref (ad 40)), (1, vI x1)] → kj9 M10 = some out → W p l e (rmD 6) s m args below meth c H locs 0 0 (QR below G dX5 ad hp0 args s (some (vI out.1)) out.2) (F0 m 50 ls []) := by
          intro M10 H locs ls hM hl hE
          subst hkj9
          refine e_aload_n X hl 0 rfl dX5_spell_50 rfl ?_
          refine e_bipush X dX5_spell_51 (by decide) ?_
          refine e_aload_n X hl 0 rfl dX5_spell_53 rfl ?_
          refine e_iload_n X hl 1 rfl dX5_spell_54 rfl ?_
          obtain ⟨v11, h, hE⟩ := ob_some hE
          refine r_callV1 X hM 40 rfl ck_X5 (rest := [vI 48, .ref (ad 40)]) (met_X5_from l G ad hp0 M10 x1 h) (cwV 1 X.ht (lw_V q3222 q3224 qs80 q170 q3225) rfl rfl rfl hd_X5_from (cxR (by decide) (by decide))) rfl hl.1 rfl (Nat.le_of_ble_eq_true rfl) dX5_spell_55 ⟨Nat.le_refl _, Nat.le_refl _⟩ (fun H locs hM => ?_)
          refine e_iadd X dX5_spell_58 ?_
          obtain ⟨M12, h, hE⟩ := ob_some hE
          refine r_callV0 X hM 40 rfl ck_X5 (rest := []) (met_X5_writes l G ad hp0 M10 (48 + v11) h) (cwV 1 X.ht (lw_V q3535 q3537 qs124 q170 q3538) rfl rfl rfl hd_X5_writes (cxR (by decide) (by decide))) rfl hl.1 rfl (Nat.le_of_ble_eq_true rfl) dX5_spell_59 ⟨Nat.le_refl _, Nat.le_refl _⟩ (fun H locs hM => ?_)
          refine e_aload_n X hl 0 rfl dX5_spell_62 rfl ?_
          refine e_bipush X dX5_spell_63 (by decide) ?_
          obtain ⟨M13, h, hE⟩ := ob_some hE
          refine r_callV0 X hM 40 rfl ck_X5 (rest := []) (met_X5_writes l G ad hp0 M12 62 h) (cwV 1 X.ht (lw_V q3535 q3537 qs124 q170 q3538) rfl rfl rfl hd_X5_writes (cxR (by decide) (by decide))) rfl hl.1 rfl (Nat.le_of_ble_eq_true rfl) dX5_spell_65 ⟨Nat.le_refl _, Nat.le_refl _⟩ (fun H locs hM => ?_)
          refine e_aload_n X hl 0 rfl dX5_spell_68 rfl ?_
          refine e_bipush X dX5_spell_69 (by decide) ?_
          refine e_aload_n X hl 0 rfl dX5_spell_71 rfl ?_
          refine e_iload_n X hl 1 rfl dX5_spell_72 rfl ?_
          obtain ⟨v14, h, hE⟩ := ob_some hE
          refine r_callV1 X hM 40 rfl ck_X5 (rest := [vI 48, .ref (ad 40)]) (met_X5_to l G ad hp0 M13 x1 h) (cwV 1 X.ht (lw_V q3226 q3228 qs81 q170 q3229) rfl rfl rfl hd_X5_to (cxR (by decide) (by decide))) rfl hl.1 rfl (Nat.le_of_ble_eq_true rfl) dX5_spell_73 ⟨Nat.le_refl _, Nat.le_refl _⟩ (fun H locs hM => ?_)
          refine e_iadd X dX5_spell_76 ?_
          obtain ⟨M15, h, hE⟩ := ob_some hE
          refine r_callV0 X hM 40 rfl ck_X5 (rest := []) (met_X5_writes l G ad hp0 M13 (48 + v14) h) (cwV 1 X.ht (lw_V q3535 q3537 qs124 q170 q3538) rfl rfl rfl hd_X5_writes (cxR (by decide) (by decide))) rfl hl.1 rfl (Nat.le_of_ble_eq_true rfl) dX5_spell_77 ⟨Nat.le_refl _, Nat.le_refl _⟩ (fun H locs hM => ?_)
          refine e_aload_n X hl 0 rfl dX5_spell_80 rfl ?_
          refine e_bipush X dX5_spell_81 (by decide) ?_
          obtain ⟨M16, h, hE⟩ := ob_some hE
          refine r_callV0 X hM 40 rfl ck_X5 (rest := []) (met_X5_writes l G ad hp0 M15 42 h) (cwV 1 X.ht (lw_V q3535 q3537 qs124 q170 q3538) rfl rfl rfl hd_X5_writes (cxR (by decide) (by decide))) rfl hl.1 rfl (Nat.le_of_ble_eq_true rfl) dX5_spell_83 ⟨Nat.le_refl _, Nat.le_refl _⟩ (fun H locs hM => ?_)
          refine e_aload_n X hl 0 rfl dX5_spell_86 rfl ?_
          refine r_getR X hM ck_X5 40 14 rfl rfl (by decide) q3048 rfl dX5_spell_87 ?_
          refine e_iload_n X hl 1 rfl dX5_spell_90 rfl ?_
          refine r_iald X hM 14 rfl (Nat.le_of_ble_eq_true rfl) hE dX5_spell_91 (fun v17 hE => ?_)
          refine e_bipush X dX5_spell_92 (by decide) ?_
          obtain ⟨kj18, hkj18, hE⟩ := jn_ex hE
          have hjkj18 : ∀ (M19 : RM) (H : Heap) (locs : List Loc) (ls : Array Slot), RW G dX5 ad hp0 M19 H locs → lv_has ls 2 [(0, .ref (ad 40)), (1, vI x1)] → kj18 M19 = some out → W p l e (rmD 6) s m args below meth c H locs 0 0 (QR below G dX5 ad hp0 args s (some (vI out.1)) out.2) (F0 m 113 ls []) := by
            intro M19 H locs ls hM hl hE
            subst hkj18
            refine e_aload_n X hl 0 rfl dX5_spell_113 rfl ?_
            refine e_bipush X dX5_spell_114 (by decide) ?_
            refine e_aload_n X hl 0 rfl dX5_spell_116 rfl ?_
            refine r_getR X hM ck_X5 40 14 rfl rfl (by decide) q3048 rfl dX5_spell_117 ?_
            refine e_iload_n X hl 1 rfl dX5_spell_120 rfl ?_
            refine r_iald X hM 14 rfl (Nat.le_of_ble_eq_true rfl) hE dX5_spell_121 (fun v20 hE => ?_)
            refine e_bipush X dX5_spell_122 (by decide) ?_
            refine e_irem X (by decide) dX5_spell_124 ?_
            refine e_iadd X dX5_spell_125 ?_
            obtain ⟨M21, h, hE⟩ := ob_some hE
            refine r_callV0 X hM 40 rfl ck_X5 (rest := []) (met_X5_writes l G ad hp0 M19 (48 + (iRem v20 10)) h) (cwV 1 X.ht (lw_V q3535 q3537 qs124 q170 q3538) rfl rfl rfl hd_X5_writes (cxR (by decide) (by decide))) rfl hl.1 rfl (Nat.le_of_ble_eq_true rfl) dX5_spell_126 ⟨Nat.le_refl _, Nat.le_refl _⟩ (fun H locs hM => ?_)
            exact hjkj6 M21 _ _ _ hM (lv_sub hl [0, 1] rfl) hE
          refine e_icmp_le X (w32 v17) 9 rfl (by decide) hE dX5_spell_94 rfl (fun hE => ?_) (fun hE => ?_)
          · exact hjkj18 M16 _ _ _ hM (lv_sub hl [0, 1] rfl) hE
          · refine e_aload_n X hl 0 rfl dX5_spell_97 rfl ?_
            refine e_bipush X dX5_spell_98 (by decide) ?_
            refine e_aload_n X hl 0 rfl dX5_spell_100 rfl ?_
            refine r_getR X hM ck_X5 40 14 rfl rfl (by decide) q3048 rfl dX5_spell_101 ?_
            refine e_iload_n X hl 1 rfl dX5_spell_104 rfl ?_
            refine r_iald X hM 14 rfl (Nat.le_of_ble_eq_true rfl) hE dX5_spell_105 (fun v22 hE => ?_)
            refine e_bipush X dX5_spell_106 (by decide) ?_
            refine e_idiv X (by decide) dX5_spell_108 ?_
            refine e_iadd X dX5_spell_109 ?_
            obtain ⟨M23, h, hE⟩ := ob_some hE
            refine r_callV0 X hM 40 rfl ck_X5 (rest := []) (met_X5_writes l G ad hp0 M16 (48 + (iDiv v22 10)) h) (cwV 1 X.ht (lw_V q3535 q3537 qs124 q170 q3538) rfl rfl rfl hd_X5_writes (cxR (by decide) (by decide))) rfl hl.1 rfl (Nat.le_of_ble_eq_true rfl) dX5_spell_110 ⟨Nat.le_refl _, Nat.le_refl _⟩ (fun H locs hM => ?_)
            exact hjkj18 M23 _ _ _ hM (lv_sub hl [0, 1] rfl) hE
        refine e_if_le X (w32 (M 40 10)) rfl hE dX5_spell_41 rfl (fun hE => ?_) (fun hE => ?_)
        · exact hjkj9 M _ _ _ hM (lv_sub hl [0, 1] rfl) hE
        · refine e_aload_n X hl 0 rfl dX5_spell_44 rfl ?_
          refine e_bipush X dX5_spell_45 (by decide) ?_
          obtain ⟨M24, h, hE⟩ := ob_some hE
          refine r_callV0 X hM 40 rfl ck_X5 (rest := []) (met_X5_writes l G ad hp0 M 32 h) (cwV 1 X.ht (lw_V q3535 q3537 qs124 q170 q3538) rfl rfl rfl hd_X5_writes (cxR (by decide) (by decide))) rfl hl.1 rfl (Nat.le_of_ble_eq_true rfl) dX5_spell_47 ⟨Nat.le_refl _, Nat.le_refl _⟩ (fun H locs hM => ?_)
          exact hjkj9 M24 _ _ _ hM (lv_sub hl [0, 1] rfl) hE
      · refine e_goto X dX5_spell_34 rfl ?_
        exact hjkj6 M _ _ _ hM (lv_sub hl [0, 1] rfl) hE
theorem wb_X5_spell {p : Program} {l : Launch} {e : Env} {s : State} {m : MethodId} {args : Array Value} {below : List Frame} {meth : Method} {c : Code} {G : GG} {ad : Nat → Nat} {hp0 : HP} (X : CX p s m args meth c cX5_spell 2 RX5 (some .int) G) {N : Nat} {M : RM}   {out : (Int × RM)} (hE : f_X5_spell N M = some out) {H : Heap} {locs : List Loc} {ls : Array Slot} (hM : RW G dX5 ad hp0 M H locs) (hl : lv_has ls 2 [(0, .ref (ad 40))]) : W p l e (rmD 6) s m args below meth c H locs 0 0 (QR below G dX5 ad hp0 args s (some (vI out.1)) out.2) (F0 m 0 ls []) := by
  unfold f_X5_spell at hE
  refine e_aload_n X hl 0 rfl dX5_spell_0 rfl ?_
  obtain ⟨v1, M2, h, hE⟩ := ob2_some hE
  refine r_callV1 X hM 40 rfl ck_X5 (rest := []) (met_X5_flows l G ad hp0 M h) (cwV 0 X.ht (lw_V q3310 q3312 qs94 q170 q3313) rfl rfl rfl hd_X5_flows (cxR (by decide) (by decide))) rfl hl.1 rfl (Nat.le_of_ble_eq_true rfl) dX5_spell_1 ⟨Nat.le_refl _, Nat.le_refl _⟩ (fun H locs hM => ?_)
  refine e_if_ne X (w32 v1) rfl hE dX5_spell_4 rfl (fun hE => ?_) (fun hE => ?_)
  · refine e_aload_n X hl 0 rfl dX5_spell_10 rfl ?_
    refine e_iconst X dX5_spell_11 ?_
    refine r_putI X hM ck_X5 40 10 rfl rfl (by decide) q3044 rfl rfl hE rfl dX5_spell_12 (fun M3 hE H locs hM => ?_)
    refine e_iconst X dX5_spell_15 ?_
    refine e_istore_n X hl [(1, vI 0), (0, .ref (ad 40))] dX5_spell_16 rfl (by decide) rfl (fun ls hl => ?_)
    refine wl_X5_spell_17 X _ M3 0 _ _ _ hE hM (lv_sub hl [1, 0] rfl) (fun M25 v26 H locs ls hM hl hE => ?_)
    refine e_aload_n X hl 0 rfl dX5_spell_135 rfl ?_
    refine r_getI X hM ck_X5 40 10 rfl rfl (by decide) q3044 rfl dX5_spell_136 ?_
    cases hE
    exact r_zret X hM rfl dX5_spell_139
  · refine e_bipush X dX5_spell_7 (by decide) ?_
    cases hE
    exact r_zret (x := (-3)) X hM rfl dX5_spell_9
theorem met_X5_spell (l : Launch) (G : GG) (ad : Nat → Nat) (hp0 : HP) {N : Nat} (M : RM)   {out : (Int × RM)} (hE : f_X5_spell N M = some out) : MR l yX5_spell (ws_ yX5_spell cX5_spell 2 (some .int)) 6 G dX5 ad hp0 [.ref (ad 40)] M (some (vI out.1)) out.2 :=
  MR.of (by decide) (Nat.le_of_ble_eq_true rfl) rfl (fun p e s m below meth c ls X hM hl => wb_X5_spell X hE hM hl)
def f_X5_paper (M0 : RM) (a1 : Int) : Option Int :=
  ob (f_X5_in M0 (w32 a1) 0 (w32 ((M0 40 10) - 1))) fun v1 => if w32 v1 = 0 then (some (-1)) else (ob (gA 240 M0 11 a1) fun v2 => some v2)
theorem hd_X5_paper : yX5_paper.cls = RX5 ∧ yX5_paper.cls ≠ "java/lang/invoke/MethodHandle" ∧ yX5_paper.cls ≠ "java/lang/invoke/VarHandle" ∧ (parseMethodDescriptor yX5_paper.desc).map (fun d => d.parameters.length) = some 1 := by decide +kernel
theorem wb_X5_paper {p : Program} {l : Launch} {e : Env} {s : State} {m : MethodId} {args : Array Value} {below : List Frame} {meth : Method} {c : Code} {G : GG} {ad : Nat → Nat} {hp0 : HP} {M0 : RM} (X : CX p s m args meth c cX5_paper 2 RX5 (some .int) G) {a1 : Int}   {out : Int} (hE : f_X5_paper M0 a1 = some out) {H : Heap} {locs : List Loc} {ls : Array Slot} (hM : RW G dX5 ad hp0 M0 H locs) (hl : lv_has ls 2 [(0, .ref (ad 40)), (1, vI a1)]) : W p l e (rmD 1) s m args below meth c H locs 0 0 (QR below G dX5 ad hp0 args s (some (vI out)) M0) (F0 m 0 ls []) := by
  unfold f_X5_paper at hE
  refine e_iload_n X hl 1 rfl dX5_paper_0 rfl ?_
  refine e_i2l X dX5_paper_1 ?_
  refine e_lconst X 0 dX5_paper_2 (by decide) ?_
  refine e_aload_n X hl 0 rfl dX5_paper_3 rfl ?_
  refine r_getI X hM ck_X5 40 10 rfl rfl (by decide) q3044 rfl dX5_paper_4 ?_
  refine e_iconst X dX5_paper_7 ?_
  refine e_isub X dX5_paper_8 ?_
  refine e_i2l X dX5_paper_9 ?_
  obtain ⟨v1, h, hE⟩ := ob_some hE
  refine r_callS1 X hM (rest := []) (met_X5_in l G ad hp0 M0 (w32 a1) 0 (w32 ((M0 40 10) - 1)) h) (va_cwS 3 X.ht (lw_S q3172 q3173 q170 q3174) rfl rfl rfl hd_X5_in (cxR (by decide) (by decide))) rfl hl.1 rfl (Nat.le_of_ble_eq_true rfl) dX5_paper_10 ⟨Nat.le_refl _, Nat.le_refl _⟩ (fun H locs hM => ?_)
  refine e_if_eq X (w32 v1) rfl hE dX5_paper_13 rfl (fun hE => ?_) (fun hE => ?_)
  · refine e_iconst X dX5_paper_25 ?_
    cases hE
    exact r_zret (x := (-1)) X hM rfl dX5_paper_26
  · refine e_aload_n X hl 0 rfl dX5_paper_16 rfl ?_
    refine r_getR X hM ck_X5 40 11 rfl rfl (by decide) q3045 rfl dX5_paper_17 ?_
    refine e_iload_n X hl 1 rfl dX5_paper_20 rfl ?_
    refine r_iald X hM 11 rfl (Nat.le_of_ble_eq_true rfl) hE dX5_paper_21 (fun v2 hE => ?_)
    refine e_goto X dX5_paper_22 rfl ?_
    cases hE
    exact r_zret X hM rfl dX5_paper_26
theorem met_X5_paper (l : Launch) (G : GG) (ad : Nat → Nat) (hp0 : HP) (M0 : RM) (a1 : Int)  {out : Int} (hE : f_X5_paper M0 a1 = some out) : MR l yX5_paper (ws_ yX5_paper cX5_paper 2 (some .int)) 1 G dX5 ad hp0 [.ref (ad 40), vI a1] M0 (some (vI out)) M0 :=
  MR.of (by decide) (Nat.le_of_ble_eq_true rfl) rfl (fun p e s m below meth c ls X hM hl => wb_X5_paper X hE hM hl)
def f_X5_fixed_L4 (N : Nat) (M0 : RM)  (k : Int → Int → Option Int) : Nat → Int → Int → Option Int
  | 0, _, _ => none
  | n + 1, x1, x2 =>
    ob (f_X5_many M0) fun v1 => if w32 v1 ≤ w32 x2 then (k x1 x2) else (ob (f_X5_low M0 x2) fun v2 => ob (f_X5_most M0 x2) fun v3 => jn (fun (v5 : Int) => jn (x2 + 1) fun v6 => f_X5_fixed_L4 N M0  k n v5 v6) fun kj4 => if ¬ w32 v2 = w32 v3 then (kj4 x1) else (jn (x1 + 1) fun v7 => kj4 v7))
def f_X5_fixed (N : Nat) (M0 : RM)  : Option Int :=
  f_X5_fixed_L4 N M0  (fun (v8 : Int) (v9 : Int) => some v8) N 0 0
theorem hd_X5_fixed : yX5_fixed.cls = RX5 ∧ yX5_fixed.cls ≠ "java/lang/invoke/MethodHandle" ∧ yX5_fixed.cls ≠ "java/lang/invoke/VarHandle" ∧ (parseMethodDescriptor yX5_fixed.desc).map (fun d => d.parameters.length) = some 0 := by decide +kernel
theorem wl_X5_fixed_4 {p : Program} {l : Launch} {e : Env} {s : State} {m : MethodId} {args : Array Value} {below : List Frame} {meth : Method} {c : Code} {G : GG} {ad : Nat → Nat} {hp0 : HP} {M0 : RM} (X : CX p s m args meth c cX5_fixed 3 RX5 (some .int) G) {N : Nat}   {k : Int → Int → Option Int} {out : Int} : ∀ (n : Nat) (x1 : Int) (x2 : Int) (H : Heap) (locs : List Loc) (ls : Array Slot) (hE : f_X5_fixed_L4 N M0  k n x1 x2 = some out) (hM : RW G dX5 ad hp0 M0 H locs) (hl : lv_has ls 3 [(0, .ref (ad 40)), (1, vI x1), (2, vI x2)]) (hk : ∀ (x1 : Int) (x2 : Int) (H : Heap) (locs : List Loc) (ls : Array Slot), RW G dX5 ad hp0 M0 H locs → lv_has ls 3 [(0, .ref (ad 40)), (1, vI x1), (2, vI x2)] → k x1 x2 = some out → W p l e (rmD 1) s m args below meth c H locs 0 0 (QR below G dX5 ad hp0 args s (some (vI out)) M0) (F0 m 34 ls [])), W p l e (rmD 1) s m args below meth c H locs 0 0 (QR below G dX5 ad hp0 args s (some (vI out)) M0) (F0 m 4 ls []) := by
  intro n
  induction n with
  | zero =>
    intro x1 x2 H locs ls hE hM hl hk
    unfold f_X5_fixed_L4 at hE
    cases hE
  | succ n ih =>
    intro x1 x2 H locs ls hE hM hl hk
    unfold f_X5_fixed_L4 at hE
    refine e_iload_n X hl 2 rfl dX5_fixed_4 rfl ?_
    refine e_aload_n X hl 0 rfl dX5_fixed_5 rfl ?_
    obtain ⟨v1, h, hE⟩ := ob_some hE
    refine r_callV1 X hM 40 rfl ck_X5 (rest := [vI x2]) (met_X5_many l G ad hp0 M0 h) (cwV 0 X.ht (lw_V q3206 q3208 qs77 q170 q3209) rfl rfl rfl hd_X5_many (cxR (by decide) (by decide))) rfl hl.1 rfl (Nat.le_of_ble_eq_true rfl) dX5_fixed_6 ⟨Nat.le_refl _, Nat.le_refl _⟩ (fun H locs hM => ?_)
    refine e_icmp_ge X (w32 x2) (w32 v1) rfl rfl hE dX5_fixed_9 rfl (fun hE => ?_) (fun hE => ?_)
    · exact hk x1 x2 _ _ _ hM (lv_sub hl [0, 1, 2] rfl) hE
    · refine e_aload_n X hl 0 rfl dX5_fixed_12 rfl ?_
      refine e_iload_n X hl 2 rfl dX5_fixed_13 rfl ?_
      obtain ⟨v2, h, hE⟩ := ob_some hE
      refine r_callV1 X hM 40 rfl ck_X5 (rest := []) (met_X5_low l G ad hp0 M0 x2 h) (cwV 1 X.ht (lw_V q3238 q3240 qs83 q170 q3241) rfl rfl rfl hd_X5_low (cxR (by decide) (by decide))) rfl hl.1 rfl (Nat.le_of_ble_eq_true rfl) dX5_fixed_14 ⟨Nat.le_refl _, Nat.le_refl _⟩ (fun H locs hM => ?_)
      refine e_aload_n X hl 0 rfl dX5_fixed_17 rfl ?_
      refine e_iload_n X hl 2 rfl dX5_fixed_18 rfl ?_
      obtain ⟨v3, h, hE⟩ := ob_some hE
      refine r_callV1 X hM 40 rfl ck_X5 (rest := [vI v2]) (met_X5_most l G ad hp0 M0 x2 h) (cwV 1 X.ht (lw_V q3242 q3244 qs84 q170 q3245) rfl rfl rfl hd_X5_most (cxR (by decide) (by decide))) rfl hl.1 rfl (Nat.le_of_ble_eq_true rfl) dX5_fixed_19 ⟨Nat.le_refl _, Nat.le_refl _⟩ (fun H locs hM => ?_)
      obtain ⟨kj4, hkj4, hE⟩ := jn_ex hE
      have hjkj4 : ∀ (v5 : Int) (H : Heap) (locs : List Loc) (ls : Array Slot), RW G dX5 ad hp0 M0 H locs → lv_has ls 3 [(0, .ref (ad 40)), (1, vI v5), (2, vI x2)] → kj4 v5 = some out → W p l e (rmD 1) s m args below meth c H locs 0 0 (QR below G dX5 ad hp0 args s (some (vI out)) M0) (F0 m 28 ls []) := by
        intro v5 H locs ls hM hl hE
        subst hkj4
        refine e_iinc X hl 2 hE (fun v6 => [(2, vI v6), (0, .ref (ad 40)), (1, vI v5)]) rfl dX5_fixed_28 (by decide) (fun _ => rfl) (fun v6 hE ls hl => ?_)
        refine e_goto X dX5_fixed_31 rfl ?_
        exact ih v5 v6 _ _ _ hE hM (lv_sub hl [1, 2, 0] rfl) hk
      refine e_icmp_ne X (w32 v2) (w32 v3) rfl rfl hE dX5_fixed_22 rfl (fun hE => ?_) (fun hE => ?_)
      · exact hjkj4 x1 _ _ _ hM (lv_sub hl [0, 1, 2] rfl) hE
      · refine e_iinc X hl 1 hE (fun v7 => [(1, vI v7), (0, .ref (ad 40)), (2, vI x2)]) rfl dX5_fixed_25 (by decide) (fun _ => rfl) (fun v7 hE ls hl => ?_)
        exact hjkj4 v7 _ _ _ hM (lv_sub hl [1, 0, 2] rfl) hE
theorem wb_X5_fixed {p : Program} {l : Launch} {e : Env} {s : State} {m : MethodId} {args : Array Value} {below : List Frame} {meth : Method} {c : Code} {G : GG} {ad : Nat → Nat} {hp0 : HP} {M0 : RM} (X : CX p s m args meth c cX5_fixed 3 RX5 (some .int) G) {N : Nat}   {out : Int} (hE : f_X5_fixed N M0 = some out) {H : Heap} {locs : List Loc} {ls : Array Slot} (hM : RW G dX5 ad hp0 M0 H locs) (hl : lv_has ls 3 [(0, .ref (ad 40))]) : W p l e (rmD 1) s m args below meth c H locs 0 0 (QR below G dX5 ad hp0 args s (some (vI out)) M0) (F0 m 0 ls []) := by
  unfold f_X5_fixed at hE
  refine e_iconst X dX5_fixed_0 ?_
  refine e_istore_n X hl [(1, vI 0), (0, .ref (ad 40))] dX5_fixed_1 rfl (by decide) rfl (fun ls hl => ?_)
  refine e_iconst X dX5_fixed_2 ?_
  refine e_istore_n X hl [(2, vI 0), (1, vI 0), (0, .ref (ad 40))] dX5_fixed_3 rfl (by decide) rfl (fun ls hl => ?_)
  refine wl_X5_fixed_4 X _ 0 0 _ _ _ hE hM (lv_sub hl [2, 1, 0] rfl) (fun v8 v9 H locs ls hM hl hE => ?_)
  refine e_iload_n X hl 1 rfl dX5_fixed_34 rfl ?_
  cases hE
  exact r_zret X hM rfl dX5_fixed_35
theorem met_X5_fixed (l : Launch) (G : GG) (ad : Nat → Nat) (hp0 : HP) {N : Nat} (M0 : RM)   {out : Int} (hE : f_X5_fixed N M0 = some out) : MR l yX5_fixed (ws_ yX5_fixed cX5_fixed 3 (some .int)) 1 G dX5 ad hp0 [.ref (ad 40)] M0 (some (vI out)) M0 :=
  MR.of (by decide) (Nat.le_of_ble_eq_true rfl) rfl (fun p e s m below meth c ls X hM hl => wb_X5_fixed X hE hM hl)
def f_X5_told (N : Nat) (M0 : RM) (a1 : Int) : Option Int :=
  ob (f_X5_in M0 (w32 a1) 10 17) fun v1 => if w32 v1 = 0 then (if w32 a1 = 0 then (ob (f_X5_towns_2 M0) fun v2 => some (w32 v2)) else if w32 a1 = 1 then (ob (f_X5_many M0) fun v3 => some (w32 v3)) else if w32 a1 = 2 then (ob (f_X5_supplied N M0) fun v4 => some (w32 v4)) else if w32 a1 = 3 then (some (w32 (M0 40 5))) else if w32 a1 = 4 then (some (w32 (M0 40 8))) else if w32 a1 = 5 then (some (w32 (M0 40 10))) else if w32 a1 = 6 then (ob (f_X5_fixed N M0) fun v5 => some (w32 v5)) else (some (-9223372036854775808))) else (ob (f_X5_isTown M0 (a1 - 10)) fun v6 => if w32 v6 = 0 then (some (-9223372036854775808)) else (ob (gA 110 M0 0 ((2 + a1) - 10)) fun v7 => some (w32 v7)))
theorem hd_X5_told : yX5_told.cls = RX5 ∧ yX5_told.cls ≠ "java/lang/invoke/MethodHandle" ∧ yX5_told.cls ≠ "java/lang/invoke/VarHandle" ∧ (parseMethodDescriptor yX5_told.desc).map (fun d => d.parameters.length) = some 1 := by decide +kernel
theorem wb_X5_told {p : Program} {l : Launch} {e : Env} {s : State} {m : MethodId} {args : Array Value} {below : List Frame} {meth : Method} {c : Code} {G : GG} {ad : Nat → Nat} {hp0 : HP} {M0 : RM} (X : CX p s m args meth c cX5_told 2 RX5 (some .long) G) {N : Nat} {a1 : Int}   {out : Int} (hE : f_X5_told N M0 a1 = some out) {H : Heap} {locs : List Loc} {ls : Array Slot} (hM : RW G dX5 ad hp0 M0 H locs) (hl : lv_has ls 2 [(0, .ref (ad 40)), (1, vI a1)]) : W p l e (rmD 2) s m args below meth c H locs 0 0 (QR below G dX5 ad hp0 args s (some (vL out)) M0) (F0 m 0 ls []) := by
  unfold f_X5_told at hE
  refine e_iload_n X hl 1 rfl dX5_told_0 rfl ?_
  refine e_i2l X dX5_told_1 ?_
  refine e_ldc2 X 10 q3525 (by decide) dX5_told_2 ?_
  refine e_ldc2 X 17 q3526 (by decide) dX5_told_5 ?_
  obtain ⟨v1, h, hE⟩ := ob_some hE
  refine r_callS1 X hM (rest := []) (met_X5_in l G ad hp0 M0 (w32 a1) 10 17 h) (va_cwS 3 X.ht (lw_S q3172 q3173 q170 q3174) rfl rfl rfl hd_X5_in (cxR (by decide) (by decide))) rfl hl.1 rfl (Nat.le_of_ble_eq_true rfl) dX5_told_8 ⟨Nat.le_refl _, Nat.le_refl _⟩ (fun H locs hM => ?_)
  refine e_if_eq X (w32 v1) rfl hE dX5_told_11 rfl (fun hE => ?_) (fun hE => ?_)
  · refine e_iload_n X hl 1 rfl dX5_told_44 rfl ?_
    refine e_case hE (fun h hE => ?_) (fun h0 hE => ?_)
    · refine e_tin X 0 h dX5_told_45 (by decide) (by decide) rfl rfl ?_
      refine e_aload_n X hl 0 rfl dX5_told_88 rfl ?_
      obtain ⟨v2, h, hE⟩ := ob_some hE
      refine r_callV1 X hM 40 rfl ck_X5 (rest := []) (met_X5_towns_2 l G ad hp0 M0 h) (cwV 0 X.ht (lw_V q3187 q3189 qs75 q170 q3190) rfl rfl rfl hd_X5_towns_2 (cxR (by decide) (by decide))) rfl hl.1 rfl (Nat.le_of_ble_eq_true rfl) dX5_told_89 ⟨Nat.le_refl _, Nat.le_refl _⟩ (fun H locs hM => ?_)
      refine e_i2l X dX5_told_92 ?_
      cases hE
      exact r_lret X hM dX5_told_93
    refine e_case hE (fun h hE => ?_) (fun h1 hE => ?_)
    · refine e_tin X 1 h dX5_told_45 (by decide) (by decide) rfl rfl ?_
      refine e_aload_n X hl 0 rfl dX5_told_94 rfl ?_
      obtain ⟨v3, h, hE⟩ := ob_some hE
      refine r_callV1 X hM 40 rfl ck_X5 (rest := []) (met_X5_many l G ad hp0 M0 h) (cwV 0 X.ht (lw_V q3206 q3208 qs77 q170 q3209) rfl rfl rfl hd_X5_many (cxR (by decide) (by decide))) rfl hl.1 rfl (Nat.le_of_ble_eq_true rfl) dX5_told_95 ⟨Nat.le_refl _, Nat.le_refl _⟩ (fun H locs hM => ?_)
      refine e_i2l X dX5_told_98 ?_
      cases hE
      exact r_lret X hM dX5_told_99
    refine e_case hE (fun h hE => ?_) (fun h2 hE => ?_)
    · refine e_tin X 2 h dX5_told_45 (by decide) (by decide) rfl rfl ?_
      refine e_aload_n X hl 0 rfl dX5_told_100 rfl ?_
      obtain ⟨v4, h, hE⟩ := ob_some hE
      refine r_callV1 X hM 40 rfl ck_X5 (rest := []) (met_X5_supplied l G ad hp0 M0 h) (cwV 0 X.ht (lw_V q3347 q3349 qs103 q170 q3350) rfl rfl rfl hd_X5_supplied (cxR (by decide) (by decide))) rfl hl.1 rfl (Nat.le_of_ble_eq_true rfl) dX5_told_101 ⟨Nat.le_refl _, Nat.le_refl _⟩ (fun H locs hM => ?_)
      refine e_i2l X dX5_told_104 ?_
      cases hE
      exact r_lret X hM dX5_told_105
    refine e_case hE (fun h hE => ?_) (fun h3 hE => ?_)
    · refine e_tin X 3 h dX5_told_45 (by decide) (by decide) rfl rfl ?_
      refine e_aload_n X hl 0 rfl dX5_told_106 rfl ?_
      refine r_getI X hM ck_X5 40 5 rfl rfl (by decide) q3039 rfl dX5_told_107 ?_
      refine e_i2l X dX5_told_110 ?_
      cases hE
      exact r_lret X hM dX5_told_111
    refine e_case hE (fun h hE => ?_) (fun h4 hE => ?_)
    · refine e_tin X 4 h dX5_told_45 (by decide) (by decide) rfl rfl ?_
      refine e_aload_n X hl 0 rfl dX5_told_112 rfl ?_
      refine r_getI X hM ck_X5 40 8 rfl rfl (by decide) q3042 rfl dX5_told_113 ?_
      refine e_i2l X dX5_told_116 ?_
      cases hE
      exact r_lret X hM dX5_told_117
    refine e_case hE (fun h hE => ?_) (fun h5 hE => ?_)
    · refine e_tin X 5 h dX5_told_45 (by decide) (by decide) rfl rfl ?_
      refine e_aload_n X hl 0 rfl dX5_told_118 rfl ?_
      refine r_getI X hM ck_X5 40 10 rfl rfl (by decide) q3044 rfl dX5_told_119 ?_
      refine e_i2l X dX5_told_122 ?_
      cases hE
      exact r_lret X hM dX5_told_123
    refine e_case hE (fun h hE => ?_) (fun h6 hE => ?_)
    · refine e_tin X 6 h dX5_told_45 (by decide) (by decide) rfl rfl ?_
      refine e_aload_n X hl 0 rfl dX5_told_124 rfl ?_
      obtain ⟨v5, h, hE⟩ := ob_some hE
      refine r_callV1 X hM 40 rfl ck_X5 (rest := []) (met_X5_fixed l G ad hp0 M0 h) (cwV 0 X.ht (lw_V q3547 q3549 qs125 q170 q3550) rfl rfl rfl hd_X5_fixed (cxR (by decide) (by decide))) rfl hl.1 rfl (Nat.le_of_ble_eq_true rfl) dX5_told_125 ⟨Nat.le_refl _, Nat.le_refl _⟩ (fun H locs hM => ?_)
      refine e_i2l X dX5_told_128 ?_
      cases hE
      exact r_lret X hM dX5_told_129
    refine e_tout X dX5_told_45 (by omega) rfl ?_
    refine e_ldc2 X (-9223372036854775808) q3250 (by decide) dX5_told_130 ?_
    cases hE
    exact r_lret X hM dX5_told_133
  · refine e_aload_n X hl 0 rfl dX5_told_14 rfl ?_
    refine e_iload_n X hl 1 rfl dX5_told_15 rfl ?_
    refine e_bipush X dX5_told_16 (by decide) ?_
    refine e_isub X dX5_told_18 ?_
    obtain ⟨v6, h, hE⟩ := ob_some hE
    refine r_callV1 X hM 40 rfl ck_X5 (rest := []) (met_X5_isTown l G ad hp0 M0 (a1 - 10) h) (cwV 1 X.ht (lw_V q3183 q3185 qs74 q170 q3186) rfl rfl rfl hd_X5_isTown (cxR (by decide) (by decide))) rfl hl.1 rfl (Nat.le_of_ble_eq_true rfl) dX5_told_19 ⟨Nat.le_refl _, Nat.le_refl _⟩ (fun H locs hM => ?_)
    refine e_if_eq X (w32 v6) rfl hE dX5_told_22 rfl (fun hE => ?_) (fun hE => ?_)
    · refine e_ldc2 X (-9223372036854775808) q3250 (by decide) dX5_told_40 ?_
      cases hE
      exact r_lret X hM dX5_told_43
    · refine e_aload_n X hl 0 rfl dX5_told_25 rfl ?_
      refine r_getR X hM ck_X5 40 0 rfl rfl (by decide) q3034 rfl dX5_told_26 ?_
      refine e_iconst X dX5_told_29 ?_
      refine e_iload_n X hl 1 rfl dX5_told_30 rfl ?_
      refine e_iadd X dX5_told_31 ?_
      refine e_bipush X dX5_told_32 (by decide) ?_
      refine e_isub X dX5_told_34 ?_
      refine r_iald X hM 0 rfl (Nat.le_of_ble_eq_true rfl) hE dX5_told_35 (fun v7 hE => ?_)
      refine e_i2l X dX5_told_36 ?_
      refine e_goto X dX5_told_37 rfl ?_
      cases hE
      exact r_lret X hM dX5_told_43
theorem met_X5_told (l : Launch) (G : GG) (ad : Nat → Nat) (hp0 : HP) {N : Nat} (M0 : RM) (a1 : Int)  {out : Int} (hE : f_X5_told N M0 a1 = some out) : MR l yX5_told (ws_ yX5_told cX5_told 2 (some .long)) 2 G dX5 ad hp0 [.ref (ad 40), vI a1] M0 (some (vL out)) M0 :=
  MR.of (by decide) (Nat.le_of_ble_eq_true rfl) rfl (fun p e s m below meth c ls X hM hl => wb_X5_told X hE hM hl)
def f_X5_lay_L33 (N : Nat) (b1 : Int) (b2 : Int) (k : RM → Int → Option (Int × RM)) : Nat → RM → Int → Option (Int × RM)
  | 0, _, _ => none
  | n + 1, M, x3 =>
    ob (f_X5_many M) fun v5 => if w32 v5 ≤ w32 x3 then (k M x3) else (if w32 b2 < 0 then (some ((-13), M)) else (ob (gA 4 M 12 b1) fun v6 => if w32 x3 < w32 (v6 - b2) then (ob (gA 25 M 14 x3) fun v7 => ob (sA 120 M 13 (((30 * b1) + b2) + x3) (w32 v7)) fun M8 => jn (x3 + 1) fun v9 => f_X5_lay_L33 N b1 b2 k n M8 v9) else (some ((-13), M))))
def f_X5_lay (N : Nat) (M : RM) (a1 : Int) (a2 : Int) : Option (Int × RM) :=
  ob (f_X5_isList M a1) fun v1 => if ¬ w32 v1 = 0 then (ob (gA 4 M 12 a1) fun v2 => if 0 ≤ w32 v2 then (ob2 (f_X5_flows N M) fun v3 M4 => if ¬ w32 v3 = 0 then (f_X5_lay_L33 N a1 a2 (fun (M10 : RM) (v11 : Int) => ob (f_X5_many M10) fun v12 => some (v12, M10)) N M4 0) else (some ((-3), M4))) else (some ((-11), M))) else (some ((-1), M))
theorem hd_X5_lay : yX5_lay.cls = RX5 ∧ yX5_lay.cls ≠ "java/lang/invoke/MethodHandle" ∧ yX5_lay.cls ≠ "java/lang/invoke/VarHandle" ∧ (parseMethodDescriptor yX5_lay.desc).map (fun d => d.parameters.length) = some 2 := by decide +kernel
theorem wl_X5_lay_33 {p : Program} {l : Launch} {e : Env} {s : State} {m : MethodId} {args : Array Value} {below : List Frame} {meth : Method} {c : Code} {G : GG} {ad : Nat → Nat} {hp0 : HP} (X : CX p s m args meth c cX5_lay 4 RX5 (some .int) G) {N : Nat} {b1 : Int} {b2 : Int}  {k : RM → Int → Option (Int × RM)} {out : (Int × RM)} : ∀ (n : Nat) (M : RM) (x3 : Int) (H : Heap) (locs : List Loc) (ls : Array Slot) (hE : f_X5_lay_L33 N b1 b2 k n M x3 = some out) (hM : RW G dX5 ad hp0 M H locs) (hl : lv_has ls 4 [(0, .ref (ad 40)), (1, vI b1), (2, vI b2), (3, vI x3)]) (hk : ∀ (M : RM) (x3 : Int) (H : Heap) (locs : List Loc) (ls : Array Slot), RW G dX5 ad hp0 M H locs → lv_has ls 4 [(0, .ref (ad 40)), (1, vI b1), (2, vI b2), (3, vI x3)] → k M x3 = some out → W p l e (rmD 6) s m args below meth c H locs 0 0 (QR below G dX5 ad hp0 args s (some (vI out.1)) out.2) (F0 m 86 ls [])), W p l e (rmD 6) s m args below meth c H locs 0 0 (QR below G dX5 ad hp0 args s (some (vI out.1)) out.2) (F0 m 33 ls []) := by
  intro n
  induction n with
  | zero =>
    intro M x3 H locs ls hE hM hl hk
    unfold f_X5_lay_L33 at hE
    cases hE
  | succ n ih =>
    intro M x3 H locs ls hE hM hl hk
    unfold f_X5_lay_L33 at hE
    refine e_iload_n X hl 3 rfl dX5_lay_33 rfl ?_
    refine e_aload_n X hl 0 rfl dX5_lay_34 rfl ?_
    obtain ⟨v5, h, hE⟩ := ob_some hE
    refine r_callV1 X hM 40 rfl ck_X5 (rest := [vI x3]) (met_X5_many l G ad hp0 M h) (cwV 0 X.ht (lw_V q3206 q3208 qs77 q170 q3209) rfl rfl rfl hd_X5_many (cxR (by decide) (by decide))) rfl hl.1 rfl (Nat.le_of_ble_eq_true rfl) dX5_lay_35 ⟨Nat.le_refl _, Nat.le_refl _⟩ (fun H locs hM => ?_)
    refine e_icmp_ge X (w32 x3) (w32 v5) rfl rfl hE dX5_lay_38 rfl (fun hE => ?_) (fun hE => ?_)
    · exact hk M x3 _ _ _ hM (lv_sub hl [0, 1, 2, 3] rfl) hE
    · refine e_iload_n X hl 2 rfl dX5_lay_41 rfl ?_
      refine e_if_lt X (w32 b2) rfl hE dX5_lay_42 rfl (fun hE => ?_) (fun hE => ?_)
      · refine e_bipush X dX5_lay_57 (by decide) ?_
        cases hE
        exact r_zret (x := (-13)) X hM rfl dX5_lay_59
      · refine e_iload_n X hl 3 rfl dX5_lay_45 rfl ?_
        refine e_aload_n X hl 0 rfl dX5_lay_46 rfl ?_
        refine r_getR X hM ck_X5 40 12 rfl rfl (by decide) q3046 rfl dX5_lay_47 ?_
        refine e_iload_n X hl 1 rfl dX5_lay_50 rfl ?_
        refine r_iald X hM 12 rfl (Nat.le_of_ble_eq_true rfl) hE dX5_lay_51 (fun v6 hE => ?_)
        refine e_iload_n X hl 2 rfl dX5_lay_52 rfl ?_
        refine e_isub X dX5_lay_53 ?_
        refine e_icmp_lt X (w32 x3) (w32 (v6 - b2)) rfl rfl hE dX5_lay_54 rfl (fun hE => ?_) (fun hE => ?_)
        · refine e_aload_n X hl 0 rfl dX5_lay_60 rfl ?_
          refine r_getR X hM ck_X5 40 13 rfl rfl (by decide) q3047 rfl dX5_lay_61 ?_
          refine e_bipush X dX5_lay_64 (by decide) ?_
          refine e_iload_n X hl 1 rfl dX5_lay_66 rfl ?_
          refine e_imul X dX5_lay_67 ?_
          refine e_iload_n X hl 2 rfl dX5_lay_68 rfl ?_
          refine e_iadd X dX5_lay_69 ?_
          refine e_iload_n X hl 3 rfl dX5_lay_70 rfl ?_
          refine e_iadd X dX5_lay_71 ?_
          refine e_aload_n X hl 0 rfl dX5_lay_72 rfl ?_
          refine r_getR X hM ck_X5 40 14 rfl rfl (by decide) q3048 rfl dX5_lay_73 ?_
          refine e_iload_n X hl 3 rfl dX5_lay_76 rfl ?_
          refine r_iald X hM 14 rfl (Nat.le_of_ble_eq_true rfl) hE dX5_lay_77 (fun v7 hE => ?_)
          refine e_i2l X dX5_lay_78 ?_
          refine r_last X hM 13 rfl (Nat.le_of_ble_eq_true rfl) hE dX5_lay_79 (fun M8 hE H locs hM => ?_)
          refine e_iinc X hl 3 hE (fun v9 => [(3, vI v9), (0, .ref (ad 40)), (1, vI b1), (2, vI b2)]) rfl dX5_lay_80 (by decide) (fun _ => rfl) (fun v9 hE ls hl => ?_)
          refine e_goto X dX5_lay_83 rfl ?_
          exact ih M8 v9 _ _ _ hE hM (lv_sub hl [1, 2, 3, 0] rfl) hk
        · refine e_bipush X dX5_lay_57 (by decide) ?_
          cases hE
          exact r_zret (x := (-13)) X hM rfl dX5_lay_59
theorem wb_X5_lay {p : Program} {l : Launch} {e : Env} {s : State} {m : MethodId} {args : Array Value} {below : List Frame} {meth : Method} {c : Code} {G : GG} {ad : Nat → Nat} {hp0 : HP} (X : CX p s m args meth c cX5_lay 4 RX5 (some .int) G) {N : Nat} {M : RM} {a1 : Int} {a2 : Int}   {out : (Int × RM)} (hE : f_X5_lay N M a1 a2 = some out) {H : Heap} {locs : List Loc} {ls : Array Slot} (hM : RW G dX5 ad hp0 M H locs) (hl : lv_has ls 4 [(0, .ref (ad 40)), (1, vI a1), (2, vI a2)]) : W p l e (rmD 6) s m args below meth c H locs 0 0 (QR below G dX5 ad hp0 args s (some (vI out.1)) out.2) (F0 m 0 ls []) := by
  unfold f_X5_lay at hE
  refine e_iload_n X hl 1 rfl dX5_lay_0 rfl ?_
  obtain ⟨v1, h, hE⟩ := ob_some hE
  refine r_callS1 X hM (rest := []) (met_X5_isList l G ad hp0 M a1 h) (va_cwS 1 X.ht (lw_S q3469 q3470 q170 q3471) rfl rfl rfl hd_X5_isList (cxR (by decide) (by decide))) rfl hl.1 rfl (Nat.le_of_ble_eq_true rfl) dX5_lay_1 ⟨Nat.le_refl _, Nat.le_refl _⟩ (fun H locs hM => ?_)
  refine e_if_ne X (w32 v1) rfl hE dX5_lay_4 rfl (fun hE => ?_) (fun hE => ?_)
  · refine e_aload_n X hl 0 rfl dX5_lay_9 rfl ?_
    refine r_getR X hM ck_X5 40 12 rfl rfl (by decide) q3046 rfl dX5_lay_10 ?_
    refine e_iload_n X hl 1 rfl dX5_lay_13 rfl ?_
    refine r_iald X hM 12 rfl (Nat.le_of_ble_eq_true rfl) hE dX5_lay_14 (fun v2 hE => ?_)
    refine e_if_ge X (w32 v2) rfl hE dX5_lay_15 rfl (fun hE => ?_) (fun hE => ?_)
    · refine e_aload_n X hl 0 rfl dX5_lay_21 rfl ?_
      obtain ⟨v3, M4, h, hE⟩ := ob2_some hE
      refine r_callV1 X hM 40 rfl ck_X5 (rest := []) (met_X5_flows l G ad hp0 M h) (cwV 0 X.ht (lw_V q3310 q3312 qs94 q170 q3313) rfl rfl rfl hd_X5_flows (cxR (by decide) (by decide))) rfl hl.1 rfl (Nat.le_of_ble_eq_true rfl) dX5_lay_22 ⟨Nat.le_refl _, Nat.le_refl _⟩ (fun H locs hM => ?_)
      refine e_if_ne X (w32 v3) rfl hE dX5_lay_25 rfl (fun hE => ?_) (fun hE => ?_)
      · refine e_iconst X dX5_lay_31 ?_
        refine e_istore_n X hl [(3, vI 0), (0, .ref (ad 40)), (1, vI a1), (2, vI a2)] dX5_lay_32 rfl (by decide) rfl (fun ls hl => ?_)
        refine wl_X5_lay_33 X _ M4 0 _ _ _ hE hM (lv_sub hl [1, 2, 3, 0] rfl) (fun M10 v11 H locs ls hM hl hE => ?_)
        refine e_aload_n X hl 0 rfl dX5_lay_86 rfl ?_
        obtain ⟨v12, h, hE⟩ := ob_some hE
        refine r_callV1 X hM 40 rfl ck_X5 (rest := []) (met_X5_many l G ad hp0 M10 h) (cwV 0 X.ht (lw_V q3206 q3208 qs77 q170 q3209) rfl rfl rfl hd_X5_many (cxR (by decide) (by decide))) rfl hl.1 rfl (Nat.le_of_ble_eq_true rfl) dX5_lay_87 ⟨Nat.le_refl _, Nat.le_refl _⟩ (fun H locs hM => ?_)
        cases hE
        exact r_zret X hM rfl dX5_lay_90
      · refine e_bipush X dX5_lay_28 (by decide) ?_
        cases hE
        exact r_zret (x := (-3)) X hM rfl dX5_lay_30
    · refine e_bipush X dX5_lay_18 (by decide) ?_
      cases hE
      exact r_zret (x := (-11)) X hM rfl dX5_lay_20
  · refine e_iconst X dX5_lay_7 ?_
    cases hE
    exact r_zret (x := (-1)) X hM rfl dX5_lay_8
theorem met_X5_lay (l : Launch) (G : GG) (ad : Nat → Nat) (hp0 : HP) {N : Nat} (M : RM) (a1 : Int) (a2 : Int)  {out : (Int × RM)} (hE : f_X5_lay N M a1 a2 = some out) : MR l yX5_lay (ws_ yX5_lay cX5_lay 4 (some .int)) 6 G dX5 ad hp0 [.ref (ad 40), vI a1, vI a2] M (some (vI out.1)) out.2 :=
  MR.of (by decide) (Nat.le_of_ble_eq_true rfl) rfl (fun p e s m below meth c ls X hM hl => wb_X5_lay X hE hM hl)
def f_X5_list_L34 (N : Nat) (b1 : Int) (k : RM → Int → Option (Int × RM)) : Nat → RM → Int → Option (Int × RM)
  | 0, _, _ => none
  | n + 1, M, x3 =>
    if 30 ≤ w32 x3 then (k M x3) else (ob (sA 120 M 13 ((30 * b1) + x3) 0) fun M3 => jn (x3 + 1) fun v4 => f_X5_list_L34 N b1 k n M3 v4)
def f_X5_list (N : Nat) (M : RM) (a1 : Int) (a2 : Int) : Option (Int × RM) :=
  ob (f_X5_isList M a1) fun v1 => if ¬ w32 v1 = 0 then (if w32 a2 ≤ 30 then (if 0 ≤ w32 a2 then (ob (sA 4 M 12 a1 a2) fun M2 => f_X5_list_L34 N a1 (fun (M5 : RM) (v6 : Int) => some (1, M5)) N M2 0) else (some ((-14), M))) else (some ((-2), M))) else (some ((-1), M))
theorem hd_X5_list : yX5_list.cls = RX5 ∧ yX5_list.cls ≠ "java/lang/invoke/MethodHandle" ∧ yX5_list.cls ≠ "java/lang/invoke/VarHandle" ∧ (parseMethodDescriptor yX5_list.desc).map (fun d => d.parameters.length) = some 2 := by decide +kernel
theorem wl_X5_list_34 {p : Program} {l : Launch} {e : Env} {s : State} {m : MethodId} {args : Array Value} {below : List Frame} {meth : Method} {c : Code} {G : GG} {ad : Nat → Nat} {hp0 : HP} (X : CX p s m args meth c cX5_list 4 RX5 (some .int) G) {N : Nat} {b1 : Int}  {k : RM → Int → Option (Int × RM)} {out : (Int × RM)} : ∀ (n : Nat) (M : RM) (x3 : Int) (H : Heap) (locs : List Loc) (ls : Array Slot) (hE : f_X5_list_L34 N b1 k n M x3 = some out) (hM : RW G dX5 ad hp0 M H locs) (hl : lv_has ls 4 [(0, .ref (ad 40)), (1, vI b1), (3, vI x3)]) (hk : ∀ (M : RM) (x3 : Int) (H : Heap) (locs : List Loc) (ls : Array Slot), RW G dX5 ad hp0 M H locs → lv_has ls 4 [(0, .ref (ad 40)), (1, vI b1), (3, vI x3)] → k M x3 = some out → W p l e (rmD 2) s m args below meth c H locs 0 0 (QR below G dX5 ad hp0 args s (some (vI out.1)) out.2) (F0 m 58 ls [])), W p l e (rmD 2) s m args below meth c H locs 0 0 (QR below G dX5 ad hp0 args s (some (vI out.1)) out.2) (F0 m 34 ls []) := by
  intro n
  induction n with
  | zero =>
    intro M x3 H locs ls hE hM hl hk
    unfold f_X5_list_L34 at hE
    cases hE
  | succ n ih =>
    intro M x3 H locs ls hE hM hl hk
    unfold f_X5_list_L34 at hE
    refine e_iload_n X hl 2 rfl dX5_list_34 rfl ?_
    refine e_bipush X dX5_list_35 (by decide) ?_
    refine e_icmp_ge X (w32 x3) 30 rfl (by decide) hE dX5_list_37 rfl (fun hE => ?_) (fun hE => ?_)
    · exact hk M x3 _ _ _ hM (lv_sub hl [0, 1, 2] rfl) hE
    · refine e_aload_n X hl 0 rfl dX5_list_40 rfl ?_
      refine r_getR X hM ck_X5 40 13 rfl rfl (by decide) q3047 rfl dX5_list_41 ?_
      refine e_bipush X dX5_list_44 (by decide) ?_
      refine e_iload_n X hl 1 rfl dX5_list_46 rfl ?_
      refine e_imul X dX5_list_47 ?_
      refine e_iload_n X hl 2 rfl dX5_list_48 rfl ?_
      refine e_iadd X dX5_list_49 ?_
      refine e_lconst X 0 dX5_list_50 (by decide) ?_
      refine r_last X hM 13 rfl (Nat.le_of_ble_eq_true rfl) hE dX5_list_51 (fun M3 hE H locs hM => ?_)
      refine e_iinc X hl 2 hE (fun v4 => [(3, vI v4), (0, .ref (ad 40)), (1, vI b1)]) rfl dX5_list_52 (by decide) (fun _ => rfl) (fun v4 hE ls hl => ?_)
      refine e_goto X dX5_list_55 rfl ?_
      exact ih M3 v4 _ _ _ hE hM (lv_sub hl [1, 2, 0] rfl) hk
theorem wb_X5_list {p : Program} {l : Launch} {e : Env} {s : State} {m : MethodId} {args : Array Value} {below : List Frame} {meth : Method} {c : Code} {G : GG} {ad : Nat → Nat} {hp0 : HP} (X : CX p s m args meth c cX5_list 4 RX5 (some .int) G) {N : Nat} {M : RM} {a1 : Int} {a2 : Int}   {out : (Int × RM)} (hE : f_X5_list N M a1 a2 = some out) {H : Heap} {locs : List Loc} {ls : Array Slot} (hM : RW G dX5 ad hp0 M H locs) (hl : lv_has ls 4 [(0, .ref (ad 40)), (1, vI a1), (2, vI a2)]) : W p l e (rmD 2) s m args below meth c H locs 0 0 (QR below G dX5 ad hp0 args s (some (vI out.1)) out.2) (F0 m 0 ls []) := by
  unfold f_X5_list at hE
  refine e_iload_n X hl 1 rfl dX5_list_0 rfl ?_
  obtain ⟨v1, h, hE⟩ := ob_some hE
  refine r_callS1 X hM (rest := []) (met_X5_isList l G ad hp0 M a1 h) (va_cwS 1 X.ht (lw_S q3469 q3470 q170 q3471) rfl rfl rfl hd_X5_isList (cxR (by decide) (by decide))) rfl hl.1 rfl (Nat.le_of_ble_eq_true rfl) dX5_list_1 ⟨Nat.le_refl _, Nat.le_refl _⟩ (fun H locs hM => ?_)
  refine e_if_ne X (w32 v1) rfl hE dX5_list_4 rfl (fun hE => ?_) (fun hE => ?_)
  · refine e_iload_n X hl 2 rfl dX5_list_9 rfl ?_
    refine e_bipush X dX5_list_10 (by decide) ?_
    refine e_icmp_le X (w32 a2) 30 rfl (by decide) hE dX5_list_12 rfl (fun hE => ?_) (fun hE => ?_)
    · refine e_iload_n X hl 2 rfl dX5_list_18 rfl ?_
      refine e_if_ge X (w32 a2) rfl hE dX5_list_19 rfl (fun hE => ?_) (fun hE => ?_)
      · refine e_aload_n X hl 0 rfl dX5_list_25 rfl ?_
        refine r_getR X hM ck_X5 40 12 rfl rfl (by decide) q3046 rfl dX5_list_26 ?_
        refine e_iload_n X hl 1 rfl dX5_list_29 rfl ?_
        refine e_iload_n X hl 2 rfl dX5_list_30 rfl ?_
        refine r_iast X hM 12 rfl (Nat.le_of_ble_eq_true rfl) hE dX5_list_31 (fun M2 hE H locs hM => ?_)
        refine e_iconst X dX5_list_32 ?_
        refine e_istore_n X hl [(3, vI 0), (0, .ref (ad 40)), (1, vI a1), (2, vI a2)] dX5_list_33 rfl (by decide) rfl (fun ls hl => ?_)
        refine wl_X5_list_34 X _ M2 0 _ _ _ hE hM (lv_sub hl [1, 2, 0] rfl) (fun M5 v6 H locs ls hM hl hE => ?_)
        refine e_iconst X dX5_list_58 ?_
        cases hE
        exact r_zret (x := 1) X hM rfl dX5_list_59
      · refine e_bipush X dX5_list_22 (by decide) ?_
        cases hE
        exact r_zret (x := (-14)) X hM rfl dX5_list_24
    · refine e_bipush X dX5_list_15 (by decide) ?_
      cases hE
      exact r_zret (x := (-2)) X hM rfl dX5_list_17
  · refine e_iconst X dX5_list_7 ?_
    cases hE
    exact r_zret (x := (-1)) X hM rfl dX5_list_8
theorem met_X5_list (l : Launch) (G : GG) (ad : Nat → Nat) (hp0 : HP) {N : Nat} (M : RM) (a1 : Int) (a2 : Int)  {out : (Int × RM)} (hE : f_X5_list N M a1 a2 = some out) : MR l yX5_list (ws_ yX5_list cX5_list 4 (some .int)) 2 G dX5 ad hp0 [.ref (ad 40), vI a1, vI a2] M (some (vI out.1)) out.2 :=
  MR.of (by decide) (Nat.le_of_ble_eq_true rfl) rfl (fun p e s m below meth c ls X hM hl => wb_X5_list X hE hM hl)
def f_X5_set (M : RM) (a1 : Int) (a2 : Int) (a3 : Int) : Option (Int × RM) :=
  ob (f_X5_isList M a1) fun v1 => if ¬ w32 v1 = 0 then (ob (gA 4 M 12 a1) fun v2 => if 0 ≤ w32 v2 then (ob (gA 4 M 12 a1) fun v3 => ob (f_X5_in M (w32 a2) 0 (w32 (v3 - 1))) fun v4 => if ¬ w32 v4 = 0 then (ob (sA 120 M 13 ((30 * a1) + a2) a3) fun M5 => some (1, M5)) else (some ((-13), M))) else (some ((-11), M))) else (some ((-1), M))
theorem hd_X5_set : yX5_set.cls = RX5 ∧ yX5_set.cls ≠ "java/lang/invoke/MethodHandle" ∧ yX5_set.cls ≠ "java/lang/invoke/VarHandle" ∧ (parseMethodDescriptor yX5_set.desc).map (fun d => d.parameters.length) = some 3 := by decide +kernel
theorem wb_X5_set {p : Program} {l : Launch} {e : Env} {s : State} {m : MethodId} {args : Array Value} {below : List Frame} {meth : Method} {c : Code} {G : GG} {ad : Nat → Nat} {hp0 : HP} (X : CX p s m args meth c cX5_set 5 RX5 (some .int) G) {M : RM} {a1 : Int} {a2 : Int} {a3 : Int}   {out : (Int × RM)} (hE : f_X5_set M a1 a2 a3 = some out) {H : Heap} {locs : List Loc} {ls : Array Slot} (hM : RW G dX5 ad hp0 M H locs) (hl : lv_has ls 5 [(0, .ref (ad 40)), (1, vI a1), (2, vI a2), (3, vL a3)]) : W p l e (rmD 2) s m args below meth c H locs 0 0 (QR below G dX5 ad hp0 args s (some (vI out.1)) out.2) (F0 m 0 ls []) := by
  unfold f_X5_set at hE
  refine e_iload_n X hl 1 rfl dX5_set_0 rfl ?_
  obtain ⟨v1, h, hE⟩ := ob_some hE
  refine r_callS1 X hM (rest := []) (met_X5_isList l G ad hp0 M a1 h) (va_cwS 1 X.ht (lw_S q3469 q3470 q170 q3471) rfl rfl rfl hd_X5_isList (cxR (by decide) (by decide))) rfl hl.1 rfl (Nat.le_of_ble_eq_true rfl) dX5_set_1 ⟨Nat.le_refl _, Nat.le_refl _⟩ (fun H locs hM => ?_)
  refine e_if_ne X (w32 v1) rfl hE dX5_set_4 rfl (fun hE => ?_) (fun hE => ?_)
  · refine e_aload_n X hl 0 rfl dX5_set_9 rfl ?_
    refine r_getR X hM ck_X5 40 12 rfl rfl (by decide) q3046 rfl dX5_set_10 ?_
    refine e_iload_n X hl 1 rfl dX5_set_13 rfl ?_
    refine r_iald X hM 12 rfl (Nat.le_of_ble_eq_true rfl) hE dX5_set_14 (fun v2 hE => ?_)
    refine e_if_ge X (w32 v2) rfl hE dX5_set_15 rfl (fun hE => ?_) (fun hE => ?_)
    · refine e_iload_n X hl 2 rfl dX5_set_21 rfl ?_
      refine e_i2l X dX5_set_22 ?_
      refine e_lconst X 0 dX5_set_23 (by decide) ?_
      refine e_aload_n X hl 0 rfl dX5_set_24 rfl ?_
      refine r_getR X hM ck_X5 40 12 rfl rfl (by decide) q3046 rfl dX5_set_25 ?_
      refine e_iload_n X hl 1 rfl dX5_set_28 rfl ?_
      refine r_iald X hM 12 rfl (Nat.le_of_ble_eq_true rfl) hE dX5_set_29 (fun v3 hE => ?_)
      refine e_iconst X dX5_set_30 ?_
      refine e_isub X dX5_set_31 ?_
      refine e_i2l X dX5_set_32 ?_
      obtain ⟨v4, h, hE⟩ := ob_some hE
      refine r_callS1 X hM (rest := []) (met_X5_in l G ad hp0 M (w32 a2) 0 (w32 (v3 - 1)) h) (va_cwS 3 X.ht (lw_S q3172 q3173 q170 q3174) rfl rfl rfl hd_X5_in (cxR (by decide) (by decide))) rfl hl.1 rfl (Nat.le_of_ble_eq_true rfl) dX5_set_33 ⟨Nat.le_refl _, Nat.le_refl _⟩ (fun H locs hM => ?_)
      refine e_if_ne X (w32 v4) rfl hE dX5_set_36 rfl (fun hE => ?_) (fun hE => ?_)
      · refine e_aload_n X hl 0 rfl dX5_set_42 rfl ?_
        refine r_getR X hM ck_X5 40 13 rfl rfl (by decide) q3047 rfl dX5_set_43 ?_
        refine e_bipush X dX5_set_46 (by decide) ?_
        refine e_iload_n X hl 1 rfl dX5_set_48 rfl ?_
        refine e_imul X dX5_set_49 ?_
        refine e_iload_n X hl 2 rfl dX5_set_50 rfl ?_
        refine e_iadd X dX5_set_51 ?_
        refine e_lload_n X hl 3 rfl dX5_set_52 rfl ?_
        refine r_last X hM 13 rfl (Nat.le_of_ble_eq_true rfl) hE dX5_set_53 (fun M5 hE H locs hM => ?_)
        refine e_iconst X dX5_set_54 ?_
        cases hE
        exact r_zret (x := 1) X hM rfl dX5_set_55
      · refine e_bipush X dX5_set_39 (by decide) ?_
        cases hE
        exact r_zret (x := (-13)) X hM rfl dX5_set_41
    · refine e_bipush X dX5_set_18 (by decide) ?_
      cases hE
      exact r_zret (x := (-11)) X hM rfl dX5_set_20
  · refine e_iconst X dX5_set_7 ?_
    cases hE
    exact r_zret (x := (-1)) X hM rfl dX5_set_8
theorem met_X5_set (l : Launch) (G : GG) (ad : Nat → Nat) (hp0 : HP) (M : RM) (a1 : Int) (a2 : Int) (a3 : Int)  {out : (Int × RM)} (hE : f_X5_set M a1 a2 a3 = some out) : MR l yX5_set (ws_ yX5_set cX5_set 5 (some .int)) 2 G dX5 ad hp0 [.ref (ad 40), vI a1, vI a2, vL a3] M (some (vI out.1)) out.2 :=
  MR.of (by decide) (Nat.le_of_ble_eq_true rfl) rfl (fun p e s m below meth c ls X hM hl => wb_X5_set X hE hM hl)
def f_X5_get (M0 : RM) (a1 : Int) (a2 : Int) : Option Int :=
  ob (f_X5_isList M0 a1) fun v1 => if w32 v1 = 0 then (some (-9223372036854775808)) else (ob (gA 4 M0 12 a1) fun v2 => ob (f_X5_in M0 (w32 a2) 0 (w32 (v2 - 1))) fun v3 => if w32 v3 = 0 then (some (-9223372036854775808)) else (ob (gA 120 M0 13 ((30 * a1) + a2)) fun v4 => some v4))
theorem hd_X5_get : yX5_get.cls = RX5 ∧ yX5_get.cls ≠ "java/lang/invoke/MethodHandle" ∧ yX5_get.cls ≠ "java/lang/invoke/VarHandle" ∧ (parseMethodDescriptor yX5_get.desc).map (fun d => d.parameters.length) = some 2 := by decide +kernel
theorem wb_X5_get {p : Program} {l : Launch} {e : Env} {s : State} {m : MethodId} {args : Array Value} {below : List Frame} {meth : Method} {c : Code} {G : GG} {ad : Nat → Nat} {hp0 : HP} {M0 : RM} (X : CX p s m args meth c cX5_get 3 RX5 (some .long) G) {a1 : Int} {a2 : Int}   {out : Int} (hE : f_X5_get M0 a1 a2 = some out) {H : Heap} {locs : List Loc} {ls : Array Slot} (hM : RW G dX5 ad hp0 M0 H locs) (hl : lv_has ls 3 [(0, .ref (ad 40)), (1, vI a1), (2, vI a2)]) : W p l e (rmD 2) s m args below meth c H locs 0 0 (QR below G dX5 ad hp0 args s (some (vL out)) M0) (F0 m 0 ls []) := by
  unfold f_X5_get at hE
  refine e_iload_n X hl 1 rfl dX5_get_0 rfl ?_
  obtain ⟨v1, h, hE⟩ := ob_some hE
  refine r_callS1 X hM (rest := []) (met_X5_isList l G ad hp0 M0 a1 h) (va_cwS 1 X.ht (lw_S q3469 q3470 q170 q3471) rfl rfl rfl hd_X5_isList (cxR (by decide) (by decide))) rfl hl.1 rfl (Nat.le_of_ble_eq_true rfl) dX5_get_1 ⟨Nat.le_refl _, Nat.le_refl _⟩ (fun H locs hM => ?_)
  refine e_if_eq X (w32 v1) rfl hE dX5_get_4 rfl (fun hE => ?_) (fun hE => ?_)
  · refine e_ldc2 X (-9223372036854775808) q3250 (by decide) dX5_get_39 ?_
    cases hE
    exact r_lret X hM dX5_get_42
  · refine e_iload_n X hl 2 rfl dX5_get_7 rfl ?_
    refine e_i2l X dX5_get_8 ?_
    refine e_lconst X 0 dX5_get_9 (by decide) ?_
    refine e_aload_n X hl 0 rfl dX5_get_10 rfl ?_
    refine r_getR X hM ck_X5 40 12 rfl rfl (by decide) q3046 rfl dX5_get_11 ?_
    refine e_iload_n X hl 1 rfl dX5_get_14 rfl ?_
    refine r_iald X hM 12 rfl (Nat.le_of_ble_eq_true rfl) hE dX5_get_15 (fun v2 hE => ?_)
    refine e_iconst X dX5_get_16 ?_
    refine e_isub X dX5_get_17 ?_
    refine e_i2l X dX5_get_18 ?_
    obtain ⟨v3, h, hE⟩ := ob_some hE
    refine r_callS1 X hM (rest := []) (met_X5_in l G ad hp0 M0 (w32 a2) 0 (w32 (v2 - 1)) h) (va_cwS 3 X.ht (lw_S q3172 q3173 q170 q3174) rfl rfl rfl hd_X5_in (cxR (by decide) (by decide))) rfl hl.1 rfl (Nat.le_of_ble_eq_true rfl) dX5_get_19 ⟨Nat.le_refl _, Nat.le_refl _⟩ (fun H locs hM => ?_)
    refine e_if_eq X (w32 v3) rfl hE dX5_get_22 rfl (fun hE => ?_) (fun hE => ?_)
    · refine e_ldc2 X (-9223372036854775808) q3250 (by decide) dX5_get_39 ?_
      cases hE
      exact r_lret X hM dX5_get_42
    · refine e_aload_n X hl 0 rfl dX5_get_25 rfl ?_
      refine r_getR X hM ck_X5 40 13 rfl rfl (by decide) q3047 rfl dX5_get_26 ?_
      refine e_bipush X dX5_get_29 (by decide) ?_
      refine e_iload_n X hl 1 rfl dX5_get_31 rfl ?_
      refine e_imul X dX5_get_32 ?_
      refine e_iload_n X hl 2 rfl dX5_get_33 rfl ?_
      refine e_iadd X dX5_get_34 ?_
      refine r_lald X hM 13 rfl (Nat.le_of_ble_eq_true rfl) hE dX5_get_35 (fun v4 hE => ?_)
      refine e_goto X dX5_get_36 rfl ?_
      cases hE
      exact r_lret X hM dX5_get_42
theorem met_X5_get (l : Launch) (G : GG) (ad : Nat → Nat) (hp0 : HP) (M0 : RM) (a1 : Int) (a2 : Int)  {out : Int} (hE : f_X5_get M0 a1 a2 = some out) : MR l yX5_get (ws_ yX5_get cX5_get 3 (some .long)) 2 G dX5 ad hp0 [.ref (ad 40), vI a1, vI a2] M0 (some (vL out)) M0 :=
  MR.of (by decide) (Nat.le_of_ble_eq_true rfl) rfl (fun p e s m below meth c ls X hM hl => wb_X5_get X hE hM hl)
def f_X5_image (N : Nat) (M : RM)  : Option (Int × RM) :=
  ob (f_X5_pours N M 0 110 0 2 110 0) fun M1 => ob (f_X5_poursCosts N M1 1 25 0 3 25 0) fun M2 => jn (up2 M2 40 4 1) fun M3 => ob (f_X5_many M3) fun v4 => some (v4, M3)
theorem hd_X5_image : yX5_image.cls = RX5 ∧ yX5_image.cls ≠ "java/lang/invoke/MethodHandle" ∧ yX5_image.cls ≠ "java/lang/invoke/VarHandle" ∧ (parseMethodDescriptor yX5_image.desc).map (fun d => d.parameters.length) = some 0 := by decide +kernel
theorem wb_X5_image {p : Program} {l : Launch} {e : Env} {s : State} {m : MethodId} {args : Array Value} {below : List Frame} {meth : Method} {c : Code} {G : GG} {ad : Nat → Nat} {hp0 : HP} (X : CX p s m args meth c cX5_image 1 RX5 (some .int) G) {N : Nat} {M : RM}   {out : (Int × RM)} (hE : f_X5_image N M = some out) {H : Heap} {locs : List Loc} {ls : Array Slot} (hM : RW G dX5 ad hp0 M H locs) (hl : lv_has ls 1 [(0, .ref (ad 40))]) : W p l e (rmD 1) s m args below meth c H locs 0 0 (QR below G dX5 ad hp0 args s (some (vI out.1)) out.2) (F0 m 0 ls []) := by
  unfold f_X5_image at hE
  refine e_aload_n X hl 0 rfl dX5_image_0 rfl ?_
  refine r_getR X hM ck_X5 40 0 rfl rfl (by decide) q3034 rfl dX5_image_1 ?_
  refine e_iconst X dX5_image_4 ?_
  refine e_aload_n X hl 0 rfl dX5_image_5 rfl ?_
  refine r_getR X hM ck_X5 40 2 rfl rfl (by decide) q3036 rfl dX5_image_6 ?_
  refine e_iconst X dX5_image_9 ?_
  obtain ⟨M1, h, hE⟩ := ob_some hE
  refine r_callS0 X hM (rest := []) (met_X5_pours l G ad hp0 M 0 110 0 2 110 0 rfl (Nat.le_of_ble_eq_true rfl) rfl (Nat.le_of_ble_eq_true rfl) h) (va_cwS 4 X.ht (lw_S q3160 q3161 q170 q3162) rfl rfl rfl hd_X5_pours (cxR (by decide) (by decide))) rfl hl.1 rfl (Nat.le_of_ble_eq_true rfl) dX5_image_10 ⟨Nat.le_refl _, Nat.le_refl _⟩ (fun H locs hM => ?_)
  refine e_aload_n X hl 0 rfl dX5_image_13 rfl ?_
  refine r_getR X hM ck_X5 40 1 rfl rfl (by decide) q3035 rfl dX5_image_14 ?_
  refine e_iconst X dX5_image_17 ?_
  refine e_aload_n X hl 0 rfl dX5_image_18 rfl ?_
  refine r_getR X hM ck_X5 40 3 rfl rfl (by decide) q3037 rfl dX5_image_19 ?_
  refine e_iconst X dX5_image_22 ?_
  obtain ⟨M2, h, hE⟩ := ob_some hE
  refine r_callS0 X hM (rest := []) (met_X5_poursCosts l G ad hp0 M1 1 25 0 3 25 0 rfl (Nat.le_of_ble_eq_true rfl) rfl (Nat.le_of_ble_eq_true rfl) h) (va_cwS 4 X.ht (lw_S q3163 q3164 q170 q3165) rfl rfl rfl hd_X5_poursCosts (cxR (by decide) (by decide))) rfl hl.1 rfl (Nat.le_of_ble_eq_true rfl) dX5_image_23 ⟨Nat.le_refl _, Nat.le_refl _⟩ (fun H locs hM => ?_)
  refine e_aload_n X hl 0 rfl dX5_image_26 rfl ?_
  refine e_iconst X dX5_image_27 ?_
  refine r_putZ X hM ck_X5 40 4 rfl rfl (by decide) q3038 rfl rfl hE (by decide) rfl dX5_image_28 (fun M3 hE H locs hM => ?_)
  refine e_aload_n X hl 0 rfl dX5_image_31 rfl ?_
  obtain ⟨v4, h, hE⟩ := ob_some hE
  refine r_callV1 X hM 40 rfl ck_X5 (rest := []) (met_X5_many l G ad hp0 M3 h) (cwV 0 X.ht (lw_V q3206 q3208 qs77 q170 q3209) rfl rfl rfl hd_X5_many (cxR (by decide) (by decide))) rfl hl.1 rfl (Nat.le_of_ble_eq_true rfl) dX5_image_32 ⟨Nat.le_refl _, Nat.le_refl _⟩ (fun H locs hM => ?_)
  cases hE
  exact r_zret X hM rfl dX5_image_35
theorem met_X5_image (l : Launch) (G : GG) (ad : Nat → Nat) (hp0 : HP) {N : Nat} (M : RM)   {out : (Int × RM)} (hE : f_X5_image N M = some out) : MR l yX5_image (ws_ yX5_image cX5_image 1 (some .int)) 1 G dX5 ad hp0 [.ref (ad 40)] M (some (vI out.1)) out.2 :=
  MR.of (by decide) (Nat.le_of_ble_eq_true rfl) rfl (fun p e s m below meth c ls X hM hl => wb_X5_image X hE hM hl)
def f_X5_undo (N : Nat) (M : RM)  : Option (Int × RM) :=
  if ¬ w32 (M 40 4) = 0 then (ob (f_X5_pours N M 2 110 0 0 110 0) fun M1 => ob (f_X5_poursCosts N M1 3 25 0 1 25 0) fun M2 => jn (up2 M2 40 5 0) fun M3 => ob (f_X5_many M3) fun v4 => some (v4, M3)) else (some ((-3), M))
theorem hd_X5_undo : yX5_undo.cls = RX5 ∧ yX5_undo.cls ≠ "java/lang/invoke/MethodHandle" ∧ yX5_undo.cls ≠ "java/lang/invoke/VarHandle" ∧ (parseMethodDescriptor yX5_undo.desc).map (fun d => d.parameters.length) = some 0 := by decide +kernel
theorem wb_X5_undo {p : Program} {l : Launch} {e : Env} {s : State} {m : MethodId} {args : Array Value} {below : List Frame} {meth : Method} {c : Code} {G : GG} {ad : Nat → Nat} {hp0 : HP} (X : CX p s m args meth c cX5_undo 1 RX5 (some .int) G) {N : Nat} {M : RM}   {out : (Int × RM)} (hE : f_X5_undo N M = some out) {H : Heap} {locs : List Loc} {ls : Array Slot} (hM : RW G dX5 ad hp0 M H locs) (hl : lv_has ls 1 [(0, .ref (ad 40))]) : W p l e (rmD 1) s m args below meth c H locs 0 0 (QR below G dX5 ad hp0 args s (some (vI out.1)) out.2) (F0 m 0 ls []) := by
  unfold f_X5_undo at hE
  refine e_aload_n X hl 0 rfl dX5_undo_0 rfl ?_
  refine r_getI X hM ck_X5 40 4 rfl rfl (by decide) q3038 rfl dX5_undo_1 ?_
  refine e_if_ne X (w32 (M 40 4)) rfl hE dX5_undo_4 rfl (fun hE => ?_) (fun hE => ?_)
  · refine e_aload_n X hl 0 rfl dX5_undo_10 rfl ?_
    refine r_getR X hM ck_X5 40 2 rfl rfl (by decide) q3036 rfl dX5_undo_11 ?_
    refine e_iconst X dX5_undo_14 ?_
    refine e_aload_n X hl 0 rfl dX5_undo_15 rfl ?_
    refine r_getR X hM ck_X5 40 0 rfl rfl (by decide) q3034 rfl dX5_undo_16 ?_
    refine e_iconst X dX5_undo_19 ?_
    obtain ⟨M1, h, hE⟩ := ob_some hE
    refine r_callS0 X hM (rest := []) (met_X5_pours l G ad hp0 M 2 110 0 0 110 0 rfl (Nat.le_of_ble_eq_true rfl) rfl (Nat.le_of_ble_eq_true rfl) h) (va_cwS 4 X.ht (lw_S q3160 q3161 q170 q3162) rfl rfl rfl hd_X5_pours (cxR (by decide) (by decide))) rfl hl.1 rfl (Nat.le_of_ble_eq_true rfl) dX5_undo_20 ⟨Nat.le_refl _, Nat.le_refl _⟩ (fun H locs hM => ?_)
    refine e_aload_n X hl 0 rfl dX5_undo_23 rfl ?_
    refine r_getR X hM ck_X5 40 3 rfl rfl (by decide) q3037 rfl dX5_undo_24 ?_
    refine e_iconst X dX5_undo_27 ?_
    refine e_aload_n X hl 0 rfl dX5_undo_28 rfl ?_
    refine r_getR X hM ck_X5 40 1 rfl rfl (by decide) q3035 rfl dX5_undo_29 ?_
    refine e_iconst X dX5_undo_32 ?_
    obtain ⟨M2, h, hE⟩ := ob_some hE
    refine r_callS0 X hM (rest := []) (met_X5_poursCosts l G ad hp0 M1 3 25 0 1 25 0 rfl (Nat.le_of_ble_eq_true rfl) rfl (Nat.le_of_ble_eq_true rfl) h) (va_cwS 4 X.ht (lw_S q3163 q3164 q170 q3165) rfl rfl rfl hd_X5_poursCosts (cxR (by decide) (by decide))) rfl hl.1 rfl (Nat.le_of_ble_eq_true rfl) dX5_undo_33 ⟨Nat.le_refl _, Nat.le_refl _⟩ (fun H locs hM => ?_)
    refine e_aload_n X hl 0 rfl dX5_undo_36 rfl ?_
    refine e_iconst X dX5_undo_37 ?_
    refine r_putI X hM ck_X5 40 5 rfl rfl (by decide) q3039 rfl rfl hE rfl dX5_undo_38 (fun M3 hE H locs hM => ?_)
    refine e_aload_n X hl 0 rfl dX5_undo_41 rfl ?_
    obtain ⟨v4, h, hE⟩ := ob_some hE
    refine r_callV1 X hM 40 rfl ck_X5 (rest := []) (met_X5_many l G ad hp0 M3 h) (cwV 0 X.ht (lw_V q3206 q3208 qs77 q170 q3209) rfl rfl rfl hd_X5_many (cxR (by decide) (by decide))) rfl hl.1 rfl (Nat.le_of_ble_eq_true rfl) dX5_undo_42 ⟨Nat.le_refl _, Nat.le_refl _⟩ (fun H locs hM => ?_)
    cases hE
    exact r_zret X hM rfl dX5_undo_45
  · refine e_bipush X dX5_undo_7 (by decide) ?_
    cases hE
    exact r_zret (x := (-3)) X hM rfl dX5_undo_9
theorem met_X5_undo (l : Launch) (G : GG) (ad : Nat → Nat) (hp0 : HP) {N : Nat} (M : RM)   {out : (Int × RM)} (hE : f_X5_undo N M = some out) : MR l yX5_undo (ws_ yX5_undo cX5_undo 1 (some .int)) 1 G dX5 ad hp0 [.ref (ad 40)] M (some (vI out.1)) out.2 :=
  MR.of (by decide) (Nat.le_of_ble_eq_true rfl) rfl (fun p e s m below meth c ls X hM hl => wb_X5_undo X hE hM hl)
