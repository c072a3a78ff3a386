/-! 26 X0B: FreightRoads: methods over the record, second batch, by program -/
set_option maxRecDepth 100000
def f_X0_supply (M : RM) (a1 : Int) (a2 : Int) : Option (Int × RM) :=
  ob (f_X0_isTown M a1) fun v1 => if ¬ w32 v1 = 0 then (ob (f_X0_isIn M (w32 a2) (-99) 99) fun v2 => if ¬ w32 v2 = 0 then (ob (f_X0_steps M) fun M3 => ob (sA 8 M3 1 a1 a2) fun M4 => some (1, M4)) else (some ((-2), M))) else (some ((-1), M))
theorem hd_X0_supply : yX0_supply.cls = RX0 ∧ yX0_supply.cls ≠ "java/lang/invoke/MethodHandle" ∧ yX0_supply.cls ≠ "java/lang/invoke/VarHandle" ∧ (parseMethodDescriptor yX0_supply.desc).map (fun d => d.parameters.length) = some 2 := by decide +kernel
theorem wb_X0_supply {p : Program} {l : Launch} {e : Env} {s : State} {m : MethodId} {args : Array Value} {below : List Frame} {meth : Method} {c : Code} {G : GG} {ad : Nat → Nat} (X : CX p s m args meth c cX0_supply 3 RX0 (some .int) G) {M : RM} {a1 : Int} {a2 : Int}  {out : (Int × RM)} (hE : f_X0_supply M a1 a2 = some out) {H : Heap} {locs : List Loc} {ls : Array Slot} {hp0 : HP} (hX : XR G ad hp0 M H locs) (hl : lv_has ls 3 [(0, .ref (ad 40)), (1, vI a1), (2, vI a2)]) : W p l e (rmA 7 29 166) s m args below meth c H locs 0 0 (QX below G ad args s 29 166 (Zd (some (vI out.1)) out.2)) (F0 m 0 ls []) := by
  unfold f_X0_supply at hE
  refine e_aload_n X hl 0 rfl dX0_supply_0 rfl ?_
  refine e_iload_n X hl 1 rfl dX0_supply_1 rfl ?_
  obtain ⟨v1, h, hE⟩ := ob_some hE
  refine x_callV1 (rest := []) X hX 40 rfl ck_X0 (mx_X0_isTown l G ad M a1 h) (cwV 1 X.ht (lw_V q1488 q1490 qs20 q127 q1491) rfl rfl rfl hd_X0_isTown (cxH (by decide) (by decide))) rfl hl.1 rfl (Nat.le_of_ble_eq_true rfl) dX0_supply_2 ⟨Nat.le_of_ble_eq_true rfl, Nat.le_of_ble_eq_true rfl⟩ 0 0 rfl rfl (fun hp0 H locs hX => ?_)
  refine e_if_ne X (w32 v1) rfl hE dX0_supply_5 rfl (fun hE => ?_) (fun hE => ?_)
  · refine e_iload_n X hl 2 rfl dX0_supply_10 rfl ?_
    refine e_i2l X dX0_supply_11 ?_
    refine e_ldc2 X (-99) q1492 (by decide) dX0_supply_12 ?_
    refine e_ldc2 X 99 q1493 (by decide) dX0_supply_15 ?_
    obtain ⟨v2, h, hE⟩ := ob_some hE
    refine x_callS1 (rest := []) X hX (mx_X0_isIn l G ad M (w32 a2) (-99) 99 h) (va_cwS 3 X.ht (lw_S q1422 q1423 q127 q1424) rfl rfl rfl hd_X0_isIn (cxH (by decide) (by decide))) rfl hl.1 rfl (Nat.le_of_ble_eq_true rfl) dX0_supply_18 ⟨Nat.le_of_ble_eq_true rfl, Nat.le_of_ble_eq_true rfl⟩ 0 0 rfl rfl (fun hp0 H locs hX => ?_)
    refine e_if_ne X (w32 v2) rfl hE dX0_supply_21 rfl (fun hE => ?_) (fun hE => ?_)
    · refine e_aload_n X hl 0 rfl dX0_supply_27 rfl ?_
      obtain ⟨M3, h, hE⟩ := ob_some hE
      refine x_callV0 (rest := []) X hX 40 rfl ck_X0 (mx_X0_steps l G ad M h) (cwV 0 X.ht (lw_V q1425 q1427 qs16 q127 q1428) rfl rfl rfl hd_X0_steps (cxH (by decide) (by decide))) rfl hl.1 rfl (Nat.le_of_ble_eq_true rfl) dX0_supply_28 ⟨Nat.le_of_ble_eq_true rfl, Nat.le_of_ble_eq_true rfl⟩ 29 166 rfl rfl (fun hp0 H locs hX => ?_)
      refine e_aload_n X hl 0 rfl dX0_supply_31 rfl ?_
      refine r_getR X hX.1 ck_X0 40 1 rfl rfl (by decide) q1225 rfl dX0_supply_32 ?_
      refine e_iload_n X hl 1 rfl dX0_supply_35 rfl ?_
      refine e_iload_n X hl 2 rfl dX0_supply_36 rfl ?_
      refine x_iast X hX 1 rfl (by decide) (Nat.le_of_ble_eq_true rfl) hE dX0_supply_37 (fun M4 hE H locs hX => ?_)
      refine e_iconst X dX0_supply_38 ?_
      cases hE
      exact x_zret (x := 1) X hX ⟨rfl, rfl⟩ rfl (Nat.le_of_ble_eq_true rfl) (Nat.le_of_ble_eq_true rfl) dX0_supply_39
    · refine e_bipush X dX0_supply_24 (by decide) ?_
      cases hE
      exact x_zret (x := (-2)) X hX ⟨rfl, rfl⟩ rfl (Nat.le_of_ble_eq_true rfl) (Nat.le_of_ble_eq_true rfl) dX0_supply_26
  · refine e_iconst X dX0_supply_8 ?_
    cases hE
    exact x_zret (x := (-1)) X hX ⟨rfl, rfl⟩ rfl (Nat.le_of_ble_eq_true rfl) (Nat.le_of_ble_eq_true rfl) dX0_supply_9
theorem mx_X0_supply (l : Launch) (G : GG) (ad : Nat → Nat) (M : RM) (a1 : Int) (a2 : Int)  {out : (Int × RM)} (hE : f_X0_supply M a1 a2 = some out) : MX l yX0_supply (ws_ yX0_supply cX0_supply 3 (some .int)) 7 29 166 G ad [.ref (ad 40), vI a1, vI a2] M (Zd (some (vI out.1)) out.2) :=
  MX.of (by decide +kernel) (Nat.le_of_ble_eq_true rfl) rfl (fun p e s m below meth c ls hp0 X hX hl => wb_X0_supply X hE hX hl)
def f_X0_solved (N : Nat) (M : RM)  : Option RM :=
  if ¬ w32 (M 40 5) = 0 then (some M) else (ob (f_X0_lays M 100) fun M1 => ob2 (f_X1_solve 100 N M1) fun v2 M3 => jn (mg (dN 100) M3 M1) fun M4 => jn (up2 M4 40 5 1) fun M5 => some M5)
theorem hd_X0_solved : yX0_solved.cls = RX0 ∧ yX0_solved.cls ≠ "java/lang/invoke/MethodHandle" ∧ yX0_solved.cls ≠ "java/lang/invoke/VarHandle" ∧ (parseMethodDescriptor yX0_solved.desc).map (fun d => d.parameters.length) = some 0 := by decide +kernel
theorem wb_X0_solved {p : Program} {l : Launch} {e : Env} {s : State} {m : MethodId} {args : Array Value} {below : List Frame} {meth : Method} {c : Code} {G : GG} {ad : Nat → Nat} (X : CX p s m args meth c cX0_solved 1 RX0 (some (.object "FreightRoads$Net")) G) {N : Nat} {M : RM}  {out : RM} (hE : f_X0_solved N M = some out) {H : Heap} {locs : List Loc} {ls : Array Slot} {hp0 : HP} (hX : XR G ad hp0 M H locs) (hl : lv_has ls 1 [(0, .ref (ad 40))]) : W p l e (rmA 10 1 5) s m args below meth c H locs 0 0 (QX below G ad args s 1 5 (Zd (some (.ref (ad (100 + 20)))) out)) (F0 m 0 ls []) := by
  unfold f_X0_solved at hE
  refine e_aload_n X hl 0 rfl dX0_solved_0 rfl ?_
  refine r_getI X hX.1 ck_X0 40 5 rfl rfl (by decide) q1230 rfl dX0_solved_1 ?_
  refine e_if_ne X (w32 (M 40 5)) rfl hE dX0_solved_4 rfl (fun hE => ?_) (fun hE => ?_)
  · refine e_aload_n X hl 0 rfl dX0_solved_28 rfl ?_
    refine r_getR X hX.1 ck_X0 40 3 rfl rfl (by decide) q1228 rfl dX0_solved_29 ?_
    cases hE
    exact x_rret X hX (Or.inl ⟨_, rfl⟩) ⟨rfl, rfl⟩ (Nat.le_of_ble_eq_true rfl) (Nat.le_of_ble_eq_true rfl) dX0_solved_32
  · refine e_aload_n X hl 0 rfl dX0_solved_7 rfl ?_
    refine e_aload_n X hl 0 rfl dX0_solved_8 rfl ?_
    refine r_getR X hX.1 ck_X0 40 3 rfl rfl (by decide) q1228 rfl dX0_solved_9 ?_
    obtain ⟨M1, h, hE⟩ := ob_some hE
    refine x_callV0 (rest := []) X hX 40 rfl ck_X0 (mx_X0_lays l G ad M 100 nb1 h) (cwV 1 X.ht (lw_V q2075 q2077 qs39 q127 q2078) rfl rfl rfl hd_X0_lays (cxH (by decide) (by decide))) rfl hl.1 rfl (Nat.le_of_ble_eq_true rfl) dX0_solved_12 ⟨Nat.le_of_ble_eq_true rfl, Nat.le_of_ble_eq_true rfl⟩ 1 5 rfl rfl (fun hp0 H locs hX => ?_)
    refine e_aload_n X hl 0 rfl dX0_solved_15 rfl ?_
    refine r_getR X hX.1 ck_X0 40 3 rfl rfl (by decide) q1228 rfl dX0_solved_16 ?_
    obtain ⟨v2, M3, h, hE⟩ := ob2_some hE
    refine x_subV1 (rest := []) X hX (subN nb1) rfl (100 + 20) (dn nb1 20 rfl) ck_X1 (fun hp => met_X1_solve l G ad hp 100 (nbN 100) M1 h) (cwV 0 X.ht (lw_V q2083 q2084 q2085 q132 q2086) rfl rfl rfl hd_X1_solve (cxH (by decide) (by decide))) rfl hl.1 rfl (Nat.le_of_ble_eq_true rfl) dX0_solved_19 ⟨Nat.le_of_ble_eq_true rfl, Nat.le_of_ble_eq_true rfl⟩ (fun H locs hX => ?_)
    obtain ⟨M4, hM3, hE⟩ := jn_ex hE
    rw [← hM3] at hX
    refine e_pop X dX0_solved_22 rfl ?_
    refine e_aload_n X hl 0 rfl dX0_solved_23 rfl ?_
    refine e_iconst X dX0_solved_24 ?_
    refine x_putZ X hX ck_X0 40 5 rfl (by decide) rfl (by decide) q1230 rfl rfl hE (by decide) rfl dX0_solved_25 (fun M5 hE H locs hX => ?_)
    refine e_aload_n X hl 0 rfl dX0_solved_28 rfl ?_
    refine r_getR X hX.1 ck_X0 40 3 rfl rfl (by decide) q1228 rfl dX0_solved_29 ?_
    cases hE
    exact x_rret X hX (Or.inl ⟨_, rfl⟩) ⟨rfl, rfl⟩ (Nat.le_of_ble_eq_true rfl) (Nat.le_of_ble_eq_true rfl) dX0_solved_32
theorem mx_X0_solved (l : Launch) (G : GG) (ad : Nat → Nat) {N : Nat} (M : RM)   {out : RM} (hE : f_X0_solved N M = some out) : MX l yX0_solved (ws_ yX0_solved cX0_solved 1 (some (.object "FreightRoads$Net"))) 10 1 5 G ad [.ref (ad 40)] M (Zd (some (.ref (ad (100 + 20)))) out) :=
  MX.of (by decide +kernel) (Nat.le_of_ble_eq_true rfl) rfl (fun p e s m below meth c ls hp0 X hX hl => wb_X0_solved X hE hX hl)
def f_X0_isFlow (N : Nat) (M : RM)  : Option (Int × RM) :=
  ob (f_X0_solved N M) fun M1 => ob (tz (M1 (100 + 20) 14)) fun v2 => some (v2, M1)
theorem hd_X0_isFlow : yX0_isFlow.cls = RX0 ∧ yX0_isFlow.cls ≠ "java/lang/invoke/MethodHandle" ∧ yX0_isFlow.cls ≠ "java/lang/invoke/VarHandle" ∧ (parseMethodDescriptor yX0_isFlow.desc).map (fun d => d.parameters.length) = some 0 := by decide +kernel
theorem wb_X0_isFlow {p : Program} {l : Launch} {e : Env} {s : State} {m : MethodId} {args : Array Value} {below : List Frame} {meth : Method} {c : Code} {G : GG} {ad : Nat → Nat} (X : CX p s m args meth c cX0_isFlow 1 RX0 (some .boolean) G) {N : Nat} {M : RM}  {out : (Int × RM)} (hE : f_X0_isFlow N M = some out) {H : Heap} {locs : List Loc} {ls : Array Slot} {hp0 : HP} (hX : XR G ad hp0 M H locs) (hl : lv_has ls 1 [(0, .ref (ad 40))]) : W p l e (rmA 11 1 5) s m args below meth c H locs 0 0 (QX below G ad args s 1 5 (Zd (some (vI out.1)) out.2)) (F0 m 0 ls []) := by
  unfold f_X0_isFlow at hE
  refine e_aload_n X hl 0 rfl dX0_isFlow_0 rfl ?_
  obtain ⟨M1, h, hE⟩ := ob_some hE
  refine x_callV1 (rest := []) X hX 40 rfl ck_X0 (mx_X0_solved l G ad M h) (cwV 0 X.ht (lw_V q2071 q2073 qs38 q127 q2074) rfl rfl rfl hd_X0_solved (cxH (by decide) (by decide))) rfl hl.1 rfl (Nat.le_of_ble_eq_true rfl) dX0_isFlow_1 ⟨Nat.le_of_ble_eq_true rfl, Nat.le_of_ble_eq_true rfl⟩ 1 5 rfl rfl (fun hp0 H locs hX => ?_)
  refine r_getNI X hX.1 ck_X1 (100 + 20) 14 (dn nb1 20 rfl) rfl (by decide) q686 rfl dX0_isFlow_4 ?_
  obtain ⟨v2, hz, hE⟩ := ob_some hE
  have hn := nb_z hz
  have hz := (tz_some hz).2
  rw [hz] at hE
  cases hE
  exact x_zret X hX ⟨rfl, rfl⟩ hn (Nat.le_of_ble_eq_true rfl) (Nat.le_of_ble_eq_true rfl) dX0_isFlow_7
theorem mx_X0_isFlow (l : Launch) (G : GG) (ad : Nat → Nat) {N : Nat} (M : RM)   {out : (Int × RM)} (hE : f_X0_isFlow N M = some out) : MX l yX0_isFlow (ws_ yX0_isFlow cX0_isFlow 1 (some .boolean)) 11 1 5 G ad [.ref (ad 40)] M (Zd (some (vI out.1)) out.2) :=
  MX.of (by decide +kernel) (Nat.le_of_ble_eq_true rfl) rfl (fun p e s m below meth c ls hp0 X hX hl => wb_X0_isFlow X hE hX hl)
def f_X0_flow (N : Nat) (M : RM) (a1 : Int) : Option (Int × RM) :=
  ob (f_X0_isRoad M a1) fun v1 => if ¬ w32 v1 = 0 then (ob2 (f_X0_isFlow N M) fun v2 M3 => if w32 v2 = 0 then (some ((-3), M3)) else (ob (gA 25 M3 (100 + 5) a1) fun v4 => some (v4, M3))) else (some ((-1), M))
theorem hd_X0_flow : yX0_flow.cls = RX0 ∧ yX0_flow.cls ≠ "java/lang/invoke/MethodHandle" ∧ yX0_flow.cls ≠ "java/lang/invoke/VarHandle" ∧ (parseMethodDescriptor yX0_flow.desc).map (fun d => d.parameters.length) = some 1 := by decide +kernel
theorem wb_X0_flow {p : Program} {l : Launch} {e : Env} {s : State} {m : MethodId} {args : Array Value} {below : List Frame} {meth : Method} {c : Code} {G : GG} {ad : Nat → Nat} (X : CX p s m args meth c cX0_flow 2 RX0 (some .int) G) {N : Nat} {M : RM} {a1 : Int}  {out : (Int × RM)} (hE : f_X0_flow N M a1 = some out) {H : Heap} {locs : List Loc} {ls : Array Slot} {hp0 : HP} (hX : XR G ad hp0 M H locs) (hl : lv_has ls 2 [(0, .ref (ad 40)), (1, vI a1)]) : W p l e (rmA 12 1 5) s m args below meth c H locs 0 0 (QX below G ad args s 1 5 (Zd (some (vI out.1)) out.2)) (F0 m 0 ls []) := by
  unfold f_X0_flow at hE
  refine e_aload_n X hl 0 rfl dX0_flow_0 rfl ?_
  refine e_iload_n X hl 1 rfl dX0_flow_1 rfl ?_
  obtain ⟨v1, h, hE⟩ := ob_some hE
  refine x_callV1 (rest := []) X hX 40 rfl ck_X0 (mx_X0_isRoad l G ad M a1 h) (cwV 1 X.ht (lw_V q1515 q1517 qs22 q127 q1518) rfl rfl rfl hd_X0_isRoad (cxH (by decide) (by decide))) rfl hl.1 rfl (Nat.le_of_ble_eq_true rfl) dX0_flow_2 ⟨Nat.le_of_ble_eq_true rfl, Nat.le_of_ble_eq_true rfl⟩ 0 0 rfl rfl (fun hp0 H locs hX => ?_)
  refine e_if_ne X (w32 v1) rfl hE dX0_flow_5 rfl (fun hE => ?_) (fun hE => ?_)
  · refine e_aload_n X hl 0 rfl dX0_flow_10 rfl ?_
    obtain ⟨v2, M3, h, hE⟩ := ob2_some hE
    refine x_callV1 (rest := []) X hX 40 rfl ck_X0 (mx_X0_isFlow l G ad M h) (cwV 0 X.ht (lw_V q2067 q2069 qs37 q127 q2070) rfl rfl rfl hd_X0_isFlow (cxH (by decide) (by decide))) rfl hl.1 rfl (Nat.le_of_ble_eq_true rfl) dX0_flow_11 ⟨Nat.le_of_ble_eq_true rfl, Nat.le_of_ble_eq_true rfl⟩ 1 5 rfl rfl (fun hp0 H locs hX => ?_)
    refine e_if_eq X (w32 v2) rfl hE dX0_flow_14 rfl (fun hE => ?_) (fun hE => ?_)
    · refine e_bipush X dX0_flow_29 (by decide) ?_
      cases hE
      exact x_zret (x := (-3)) X hX ⟨rfl, rfl⟩ rfl (Nat.le_of_ble_eq_true rfl) (Nat.le_of_ble_eq_true rfl) dX0_flow_31
    · refine e_aload_n X hl 0 rfl dX0_flow_17 rfl ?_
      refine r_getR X hX.1 ck_X0 40 3 rfl rfl (by decide) q1228 rfl dX0_flow_18 ?_
      refine r_getNR X hX.1 ck_X1 (100 + 20) 5 (dn nb1 20 rfl) rfl (by decide) q673 rfl dX0_flow_21 ?_
      refine e_iload_n X hl 1 rfl dX0_flow_24 rfl ?_
      refine r_iald X hX.1 (100 + 5) (dn nb1 5 rfl) (Nat.le_of_ble_eq_true rfl) hE dX0_flow_25 (fun v4 hE => ?_)
      refine e_goto X dX0_flow_26 rfl ?_
      cases hE
      exact x_zret X hX ⟨rfl, rfl⟩ rfl (Nat.le_of_ble_eq_true rfl) (Nat.le_of_ble_eq_true rfl) dX0_flow_31
  · refine e_iconst X dX0_flow_8 ?_
    cases hE
    exact x_zret (x := (-1)) X hX ⟨rfl, rfl⟩ rfl (Nat.le_of_ble_eq_true rfl) (Nat.le_of_ble_eq_true rfl) dX0_flow_9
theorem mx_X0_flow (l : Launch) (G : GG) (ad : Nat → Nat) {N : Nat} (M : RM) (a1 : Int)  {out : (Int × RM)} (hE : f_X0_flow N M a1 = some out) : MX l yX0_flow (ws_ yX0_flow cX0_flow 2 (some .int)) 12 1 5 G ad [.ref (ad 40), vI a1] M (Zd (some (vI out.1)) out.2) :=
  MX.of (by decide +kernel) (Nat.le_of_ble_eq_true rfl) rfl (fun p e s m below meth c ls hp0 X hX hl => wb_X0_flow X hE hX hl)
def f_X0_priced (N : Nat) (M : RM)  : Option RM :=
  if ¬ w32 (M 40 6) = 0 then (some M) else (ob (f_X1_pricesAll 100 N M) fun M1 => jn (mg (dN 100) M1 M) fun M2 => jn (up2 M2 40 6 1) fun M3 => some M3)
theorem hd_X0_priced : yX0_priced.cls = RX0 ∧ yX0_priced.cls ≠ "java/lang/invoke/MethodHandle" ∧ yX0_priced.cls ≠ "java/lang/invoke/VarHandle" ∧ (parseMethodDescriptor yX0_priced.desc).map (fun d => d.parameters.length) = some 0 := by decide +kernel
theorem wb_X0_priced {p : Program} {l : Launch} {e : Env} {s : State} {m : MethodId} {args : Array Value} {below : List Frame} {meth : Method} {c : Code} {G : GG} {ad : Nat → Nat} (X : CX p s m args meth c cX0_priced 1 RX0 (some (.object "FreightRoads$Net")) G) {N : Nat} {M : RM}  {out : RM} (hE : f_X0_priced N M = some out) {H : Heap} {locs : List Loc} {ls : Array Slot} {hp0 : HP} (hX : XR G ad hp0 M H locs) (hl : lv_has ls 1 [(0, .ref (ad 40))]) : W p l e (rmA 5 0 0) s m args below meth c H locs 0 0 (QX below G ad args s 0 0 (Zd (some (.ref (ad (100 + 20)))) out)) (F0 m 0 ls []) := by
  unfold f_X0_priced at hE
  refine e_aload_n X hl 0 rfl dX0_priced_0 rfl ?_
  refine r_getI X hX.1 ck_X0 40 6 rfl rfl (by decide) q1231 rfl dX0_priced_1 ?_
  refine e_if_ne X (w32 (M 40 6)) rfl hE dX0_priced_4 rfl (fun hE => ?_) (fun hE => ?_)
  · refine e_aload_n X hl 0 rfl dX0_priced_19 rfl ?_
    refine r_getR X hX.1 ck_X0 40 3 rfl rfl (by decide) q1228 rfl dX0_priced_20 ?_
    cases hE
    exact x_rret X hX (Or.inl ⟨_, rfl⟩) ⟨rfl, rfl⟩ (Nat.le_of_ble_eq_true rfl) (Nat.le_of_ble_eq_true rfl) dX0_priced_23
  · refine e_aload_n X hl 0 rfl dX0_priced_7 rfl ?_
    refine r_getR X hX.1 ck_X0 40 3 rfl rfl (by decide) q1228 rfl dX0_priced_8 ?_
    obtain ⟨M1, h, hE⟩ := ob_some hE
    refine x_subV0 (rest := []) X hX (subN nb1) rfl (100 + 20) (dn nb1 20 rfl) ck_X1 (fun hp => met_X1_pricesAll l G ad hp 100 (nbN 100) M h) (cwV 0 X.ht (lw_V q2278 q2279 q2280 q132 q2281) rfl rfl rfl hd_X1_pricesAll (cxH (by decide) (by decide))) rfl hl.1 rfl (Nat.le_of_ble_eq_true rfl) dX0_priced_11 ⟨Nat.le_of_ble_eq_true rfl, Nat.le_of_ble_eq_true rfl⟩ (fun H locs hX => ?_)
    obtain ⟨M2, hM3, hE⟩ := jn_ex hE
    rw [← hM3] at hX
    refine e_aload_n X hl 0 rfl dX0_priced_14 rfl ?_
    refine e_iconst X dX0_priced_15 ?_
    refine x_putZ X hX ck_X0 40 6 rfl (by decide) rfl (by decide) q1231 rfl rfl hE (by decide) rfl dX0_priced_16 (fun M3 hE H locs hX => ?_)
    refine e_aload_n X hl 0 rfl dX0_priced_19 rfl ?_
    refine r_getR X hX.1 ck_X0 40 3 rfl rfl (by decide) q1228 rfl dX0_priced_20 ?_
    cases hE
    exact x_rret X hX (Or.inl ⟨_, rfl⟩) ⟨rfl, rfl⟩ (Nat.le_of_ble_eq_true rfl) (Nat.le_of_ble_eq_true rfl) dX0_priced_23
theorem mx_X0_priced (l : Launch) (G : GG) (ad : Nat → Nat) {N : Nat} (M : RM)   {out : RM} (hE : f_X0_priced N M = some out) : MX l yX0_priced (ws_ yX0_priced cX0_priced 1 (some (.object "FreightRoads$Net"))) 5 0 0 G ad [.ref (ad 40)] M (Zd (some (.ref (ad (100 + 20)))) out) :=
  MX.of (by decide +kernel) (Nat.le_of_ble_eq_true rfl) rfl (fun p e s m below meth c ls hp0 X hX hl => wb_X0_priced X hE hX hl)
def f_X0_price (N : Nat) (M : RM) (a1 : Int) : Option (Int × RM) :=
  ob (f_X0_isTown M a1) fun v1 => if w32 v1 = 0 then (some ((-9223372036854775808), M)) else (ob2 (f_X0_isFlow N M) fun v2 M3 => if w32 v2 = 0 then (some ((-9223372036854775808), M3)) else (ob (f_X0_priced N M3) fun M4 => ob (f_J6_get (100 + 17) M4 a1) fun v5 => if w32 v5 = 0 then (some ((-9223372036854775808), M4)) else (ob (gA 8 M4 (100 + 16) a1) fun v6 => some (v6, M4))))
theorem hd_X0_price : yX0_price.cls = RX0 ∧ yX0_price.cls ≠ "java/lang/invoke/MethodHandle" ∧ yX0_price.cls ≠ "java/lang/invoke/VarHandle" ∧ (parseMethodDescriptor yX0_price.desc).map (fun d => d.parameters.length) = some 1 := by decide +kernel
theorem wb_X0_price {p : Program} {l : Launch} {e : Env} {s : State} {m : MethodId} {args : Array Value} {below : List Frame} {meth : Method} {c : Code} {G : GG} {ad : Nat → Nat} (X : CX p s m args meth c cX0_price 2 RX0 (some .long) G) {N : Nat} {M : RM} {a1 : Int}  {out : (Int × RM)} (hE : f_X0_price N M a1 = some out) {H : Heap} {locs : List Loc} {ls : Array Slot} {hp0 : HP} (hX : XR G ad hp0 M H locs) (hl : lv_has ls 2 [(0, .ref (ad 40)), (1, vI a1)]) : W p l e (rmA 12 1 5) s m args below meth c H locs 0 0 (QX below G ad args s 1 5 (Zd (some (vL out.1)) out.2)) (F0 m 0 ls []) := by
  unfold f_X0_price at hE
  refine e_aload_n X hl 0 rfl dX0_price_0 rfl ?_
  refine e_iload_n X hl 1 rfl dX0_price_1 rfl ?_
  obtain ⟨v1, h, hE⟩ := ob_some hE
  refine x_callV1 (rest := []) X hX 40 rfl ck_X0 (mx_X0_isTown l G ad M a1 h) (cwV 1 X.ht (lw_V q1488 q1490 qs20 q127 q1491) rfl rfl rfl hd_X0_isTown (cxH (by decide) (by decide))) rfl hl.1 rfl (Nat.le_of_ble_eq_true rfl) dX0_price_2 ⟨Nat.le_of_ble_eq_true rfl, Nat.le_of_ble_eq_true rfl⟩ 0 0 rfl rfl (fun hp0 H locs hX => ?_)
  refine e_if_eq X (w32 v1) rfl hE dX0_price_5 rfl (fun hE => ?_) (fun hE => ?_)
  · refine e_ldc2 X (-9223372036854775808) q1943 (by decide) dX0_price_41 ?_
    cases hE
    exact x_lret X hX ⟨rfl, rfl⟩ (Nat.le_of_ble_eq_true rfl) (Nat.le_of_ble_eq_true rfl) dX0_price_44
  · refine e_aload_n X hl 0 rfl dX0_price_8 rfl ?_
    obtain ⟨v2, M3, h, hE⟩ := ob2_some hE
    refine x_callV1 (rest := []) X hX 40 rfl ck_X0 (mx_X0_isFlow l G ad M h) (cwV 0 X.ht (lw_V q2067 q2069 qs37 q127 q2070) rfl rfl rfl hd_X0_isFlow (cxH (by decide) (by decide))) rfl hl.1 rfl (Nat.le_of_ble_eq_true rfl) dX0_price_9 ⟨Nat.le_of_ble_eq_true rfl, Nat.le_of_ble_eq_true rfl⟩ 1 5 rfl rfl (fun hp0 H locs hX => ?_)
    refine e_if_eq X (w32 v2) rfl hE dX0_price_12 rfl (fun hE => ?_) (fun hE => ?_)
    · refine e_ldc2 X (-9223372036854775808) q1943 (by decide) dX0_price_41 ?_
      cases hE
      exact x_lret X hX ⟨rfl, rfl⟩ (Nat.le_of_ble_eq_true rfl) (Nat.le_of_ble_eq_true rfl) dX0_price_44
    · refine e_aload_n X hl 0 rfl dX0_price_15 rfl ?_
      obtain ⟨M4, h, hE⟩ := ob_some hE
      refine x_callV1 (rest := []) X hX 40 rfl ck_X0 (mx_X0_priced l G ad M3 h) (cwV 0 X.ht (lw_V q2274 q2276 qs50 q127 q2277) rfl rfl rfl hd_X0_priced (cxH (by decide) (by decide))) rfl hl.1 rfl (Nat.le_of_ble_eq_true rfl) dX0_price_16 ⟨Nat.le_of_ble_eq_true rfl, Nat.le_of_ble_eq_true rfl⟩ 1 5 rfl rfl (fun hp0 H locs hX => ?_)
      refine r_getNR X hX.1 ck_X1 (100 + 20) 17 (dn nb1 20 rfl) rfl (by decide) q695 rfl dX0_price_19 ?_
      refine e_iload_n X hl 1 rfl dX0_price_22 rfl ?_
      obtain ⟨v5, h, hE⟩ := ob_some hE
      refine x_subV1r (rest := []) X hX (subB (bsN nb1)) rfl (100 + 17) (bsN nb1).1 ck_J6 (fun hp => met_J6_get l G ad hp (100 + 17) (bsB (100 + 17)) M4 a1 h) (cwV 1 X.ht (lw_V q2312 q1635 q1636 q135 q1637) rfl rfl rfl hd_J6_get (cxH (by decide) (by decide))) rfl hl.1 rfl (Nat.le_of_ble_eq_true rfl) dX0_price_23 ⟨Nat.le_of_ble_eq_true rfl, Nat.le_of_ble_eq_true rfl⟩ (fun H locs hX => ?_)
      refine e_if_eq X (w32 v5) rfl hE dX0_price_26 rfl (fun hE => ?_) (fun hE => ?_)
      · refine e_ldc2 X (-9223372036854775808) q1943 (by decide) dX0_price_41 ?_
        cases hE
        exact x_lret X hX ⟨rfl, rfl⟩ (Nat.le_of_ble_eq_true rfl) (Nat.le_of_ble_eq_true rfl) dX0_price_44
      · refine e_aload_n X hl 0 rfl dX0_price_29 rfl ?_
        refine r_getR X hX.1 ck_X0 40 3 rfl rfl (by decide) q1228 rfl dX0_price_30 ?_
        refine r_getNR X hX.1 ck_X1 (100 + 20) 16 (dn nb1 20 rfl) rfl (by decide) q692 rfl dX0_price_33 ?_
        refine e_iload_n X hl 1 rfl dX0_price_36 rfl ?_
        refine r_lald X hX.1 (100 + 16) (dn nb1 16 rfl) (Nat.le_of_ble_eq_true rfl) hE dX0_price_37 (fun v6 hE => ?_)
        refine e_goto X dX0_price_38 rfl ?_
        cases hE
        exact x_lret X hX ⟨rfl, rfl⟩ (Nat.le_of_ble_eq_true rfl) (Nat.le_of_ble_eq_true rfl) dX0_price_44
theorem mx_X0_price (l : Launch) (G : GG) (ad : Nat → Nat) {N : Nat} (M : RM) (a1 : Int)  {out : (Int × RM)} (hE : f_X0_price N M a1 = some out) : MX l yX0_price (ws_ yX0_price cX0_price 2 (some .long)) 12 1 5 G ad [.ref (ad 40), vI a1] M (Zd (some (vL out.1)) out.2) :=
  MX.of (by decide +kernel) (Nat.le_of_ble_eq_true rfl) rfl (fun p e s m below meth c ls hp0 X hX hl => wb_X0_price X hE hX hl)
def f_X0_reduced (N : Nat) (M : RM) (a1 : Int) : Option (Int × RM) :=
  ob (f_X0_isRoad M a1) fun v1 => if w32 v1 = 0 then (some ((-9223372036854775808), M)) else (ob2 (f_X0_isFlow N M) fun v2 M3 => if ¬ w32 v2 = 0 then (ob (gA 25 M3 (100 + 0) a1) fun v4 => ob2 (f_X0_price N M3 v4) fun v5 M6 => ob (gA 25 M6 (100 + 1) a1) fun v7 => ob2 (f_X0_price N M6 v7) fun v8 M9 => if w64 v5 = (-9223372036854775808) then (some ((-9223372036854775808), M9)) else (if ¬ w64 v8 = (-9223372036854775808) then (ob (gA 25 M9 (100 + 4) a1) fun v10 => some ((v10 + v5) - v8, M9)) else (some ((-9223372036854775808), M9)))) else (some ((-9223372036854775808), M3)))
theorem hd_X0_reduced : yX0_reduced.cls = RX0 ∧ yX0_reduced.cls ≠ "java/lang/invoke/MethodHandle" ∧ yX0_reduced.cls ≠ "java/lang/invoke/VarHandle" ∧ (parseMethodDescriptor yX0_reduced.desc).map (fun d => d.parameters.length) = some 1 := by decide +kernel
theorem wb_X0_reduced {p : Program} {l : Launch} {e : Env} {s : State} {m : MethodId} {args : Array Value} {below : List Frame} {meth : Method} {c : Code} {G : GG} {ad : Nat → Nat} (X : CX p s m args meth c cX0_reduced 6 RX0 (some .long) G) {N : Nat} {M : RM} {a1 : Int}  {out : (Int × RM)} (hE : f_X0_reduced N M a1 = some out) {H : Heap} {locs : List Loc} {ls : Array Slot} {hp0 : HP} (hX : XR G ad hp0 M H locs) (hl : lv_has ls 6 [(0, .ref (ad 40)), (1, vI a1)]) : W p l e (rmA 13 3 15) s m args below meth c H locs 0 0 (QX below G ad args s 3 15 (Zd (some (vL out.1)) out.2)) (F0 m 0 ls []) := by
  unfold f_X0_reduced at hE
  refine e_aload_n X hl 0 rfl dX0_reduced_0 rfl ?_
  refine e_iload_n X hl 1 rfl dX0_reduced_1 rfl ?_
  obtain ⟨v1, h, hE⟩ := ob_some hE
  refine x_callV1 (rest := []) X hX 40 rfl ck_X0 (mx_X0_isRoad l G ad M a1 h) (cwV 1 X.ht (lw_V q1515 q1517 qs22 q127 q1518) rfl rfl rfl hd_X0_isRoad (cxH (by decide) (by decide))) rfl hl.1 rfl (Nat.le_of_ble_eq_true rfl) dX0_reduced_2 ⟨Nat.le_of_ble_eq_true rfl, Nat.le_of_ble_eq_true rfl⟩ 0 0 rfl rfl (fun hp0 H locs hX => ?_)
  refine e_if_eq X (w32 v1) rfl hE dX0_reduced_5 rfl (fun hE => ?_) (fun hE => ?_)
  · refine e_ldc2 X (-9223372036854775808) q1943 (by decide) dX0_reduced_15 ?_
    cases hE
    exact x_lret X hX ⟨rfl, rfl⟩ (Nat.le_of_ble_eq_true rfl) (Nat.le_of_ble_eq_true rfl) dX0_reduced_18
  · refine e_aload_n X hl 0 rfl dX0_reduced_8 rfl ?_
    obtain ⟨v2, M3, h, hE⟩ := ob2_some hE
    refine x_callV1 (rest := []) X hX 40 rfl ck_X0 (mx_X0_isFlow l G ad M h) (cwV 0 X.ht (lw_V q2067 q2069 qs37 q127 q2070) rfl rfl rfl hd_X0_isFlow (cxH (by decide) (by decide))) rfl hl.1 rfl (Nat.le_of_ble_eq_true rfl) dX0_reduced_9 ⟨Nat.le_of_ble_eq_true rfl, Nat.le_of_ble_eq_true rfl⟩ 1 5 rfl rfl (fun hp0 H locs hX => ?_)
    refine e_if_ne X (w32 v2) rfl hE dX0_reduced_12 rfl (fun hE => ?_) (fun hE => ?_)
    · refine e_aload_n X hl 0 rfl dX0_reduced_19 rfl ?_
      refine e_aload_n X hl 0 rfl dX0_reduced_20 rfl ?_
      refine r_getR X hX.1 ck_X0 40 3 rfl rfl (by decide) q1228 rfl dX0_reduced_21 ?_
      refine r_getNR X hX.1 ck_X1 (100 + 20) 0 (dn nb1 20 rfl) rfl (by decide) q663 rfl dX0_reduced_24 ?_
      refine e_iload_n X hl 1 rfl dX0_reduced_27 rfl ?_
      refine r_iald X hX.1 (100 + 0) (dn nb1 0 rfl) (Nat.le_of_ble_eq_true rfl) hE dX0_reduced_28 (fun v4 hE => ?_)
      obtain ⟨v5, M6, h, hE⟩ := ob2_some hE
      refine x_callV1 (rest := []) X hX 40 rfl ck_X0 (mx_X0_price l G ad M3 v4 h) (cwV 1 X.ht (lw_V q2317 q2271 q2272 q127 q2273) rfl rfl rfl hd_X0_price (cxH (by decide) (by decide))) rfl hl.1 rfl (Nat.le_of_ble_eq_true rfl) dX0_reduced_29 ⟨Nat.le_of_ble_eq_true rfl, Nat.le_of_ble_eq_true rfl⟩ 2 10 rfl rfl (fun hp0 H locs hX => ?_)
      refine e_lstore_n X hl [(2, vL v5), (0, .ref (ad 40)), (1, vI a1)] dX0_reduced_32 rfl (by decide) rfl (fun ls hl => ?_)
      refine e_aload_n X hl 1 rfl dX0_reduced_33 rfl ?_
      refine e_aload_n X hl 1 rfl dX0_reduced_34 rfl ?_
      refine r_getR X hX.1 ck_X0 40 3 rfl rfl (by decide) q1228 rfl dX0_reduced_35 ?_
      refine r_getNR X hX.1 ck_X1 (100 + 20) 1 (dn nb1 20 rfl) rfl (by decide) q665 rfl dX0_reduced_38 ?_
      refine e_iload_n X hl 2 rfl dX0_reduced_41 rfl ?_
      refine r_iald X hX.1 (100 + 1) (dn nb1 1 rfl) (Nat.le_of_ble_eq_true rfl) hE dX0_reduced_42 (fun v7 hE => ?_)
      obtain ⟨v8, M9, h, hE⟩ := ob2_some hE
      refine x_callV1 (rest := []) X hX 40 rfl ck_X0 (mx_X0_price l G ad M6 v7 h) (cwV 1 X.ht (lw_V q2317 q2271 q2272 q127 q2273) rfl rfl rfl hd_X0_price (cxH (by decide) (by decide))) rfl hl.1 rfl (Nat.le_of_ble_eq_true rfl) dX0_reduced_43 ⟨Nat.le_of_ble_eq_true rfl, Nat.le_of_ble_eq_true rfl⟩ 3 15 rfl rfl (fun hp0 H locs hX => ?_)
      refine e_lstore X hl [(4, vL v8), (2, vL v5), (0, .ref (ad 40)), (1, vI a1)] dX0_reduced_46 (by decide) rfl (fun ls hl => ?_)
      refine e_lload_n X hl 1 rfl dX0_reduced_48 rfl ?_
      refine e_ldc2 X (-9223372036854775808) q1943 (by decide) dX0_reduced_49 ?_
      refine e_lcmp_eq X (w64 v5) (-9223372036854775808) rfl (by decide) hE dX0_reduced_52 dX0_reduced_53 rfl (fun hE => ?_) (fun hE => ?_)
      · refine e_ldc2 X (-9223372036854775808) q1943 (by decide) dX0_reduced_65 ?_
        refine e_goto X dX0_reduced_68 rfl ?_
        cases hE
        exact x_lret X hX ⟨rfl, rfl⟩ (Nat.le_of_ble_eq_true rfl) (Nat.le_of_ble_eq_true rfl) dX0_reduced_85
      · refine e_lload X hl 0 rfl dX0_reduced_56 ?_
        refine e_ldc2 X (-9223372036854775808) q1943 (by decide) dX0_reduced_58 ?_
        refine e_lcmp_ne X (w64 v8) (-9223372036854775808) rfl (by decide) hE dX0_reduced_61 dX0_reduced_62 rfl (fun hE => ?_) (fun hE => ?_)
        · refine e_aload_n X hl 2 rfl dX0_reduced_71 rfl ?_
          refine r_getR X hX.1 ck_X0 40 3 rfl rfl (by decide) q1228 rfl dX0_reduced_72 ?_
          refine r_getNR X hX.1 ck_X1 (100 + 20) 4 (dn nb1 20 rfl) rfl (by decide) q671 rfl dX0_reduced_75 ?_
          refine e_iload_n X hl 3 rfl dX0_reduced_78 rfl ?_
          refine r_lald X hX.1 (100 + 4) (dn nb1 4 rfl) (Nat.le_of_ble_eq_true rfl) hE dX0_reduced_79 (fun v10 hE => ?_)
          refine e_lload_n X hl 1 rfl dX0_reduced_80 rfl ?_
          refine e_ladd X dX0_reduced_81 ?_
          refine e_lload X hl 0 rfl dX0_reduced_82 ?_
          refine e_lsub X dX0_reduced_84 ?_
          cases hE
          exact x_lret X hX ⟨rfl, rfl⟩ (Nat.le_of_ble_eq_true rfl) (Nat.le_of_ble_eq_true rfl) dX0_reduced_85
        · refine e_ldc2 X (-9223372036854775808) q1943 (by decide) dX0_reduced_65 ?_
          refine e_goto X dX0_reduced_68 rfl ?_
          cases hE
          exact x_lret X hX ⟨rfl, rfl⟩ (Nat.le_of_ble_eq_true rfl) (Nat.le_of_ble_eq_true rfl) dX0_reduced_85
    · refine e_ldc2 X (-9223372036854775808) q1943 (by decide) dX0_reduced_15 ?_
      cases hE
      exact x_lret X hX ⟨rfl, rfl⟩ (Nat.le_of_ble_eq_true rfl) (Nat.le_of_ble_eq_true rfl) dX0_reduced_18
theorem mx_X0_reduced (l : Launch) (G : GG) (ad : Nat → Nat) {N : Nat} (M : RM) (a1 : Int)  {out : (Int × RM)} (hE : f_X0_reduced N M a1 = some out) : MX l yX0_reduced (ws_ yX0_reduced cX0_reduced 6 (some .long)) 13 3 15 G ad [.ref (ad 40), vI a1] M (Zd (some (vL out.1)) out.2) :=
  MX.of (by decide +kernel) (Nat.le_of_ble_eq_true rfl) rfl (fun p e s m below meth c ls hp0 X hX hl => wb_X0_reduced X hE hX hl)
def f_X0_cut (N : Nat) (M : RM)  : Option (Int × RM) :=
  ob (f_X0_sumOfSupplies N M) fun v1 => if ¬ w32 v1 = 0 then (some ((-3), M)) else (ob (f_X0_solved N M) fun M2 => ob (f_X1_cut 100 N M2) fun v3 => some (v3, M2))
theorem hd_X0_cut : yX0_cut.cls = RX0 ∧ yX0_cut.cls ≠ "java/lang/invoke/MethodHandle" ∧ yX0_cut.cls ≠ "java/lang/invoke/VarHandle" ∧ (parseMethodDescriptor yX0_cut.desc).map (fun d => d.parameters.length) = some 0 := by decide +kernel
theorem wb_X0_cut {p : Program} {l : Launch} {e : Env} {s : State} {m : MethodId} {args : Array Value} {below : List Frame} {meth : Method} {c : Code} {G : GG} {ad : Nat → Nat} (X : CX p s m args meth c cX0_cut 1 RX0 (some .int) G) {N : Nat} {M : RM}  {out : (Int × RM)} (hE : f_X0_cut N M = some out) {H : Heap} {locs : List Loc} {ls : Array Slot} {hp0 : HP} (hX : XR G ad hp0 M H locs) (hl : lv_has ls 1 [(0, .ref (ad 40))]) : W p l e (rmA 11 1 5) s m args below meth c H locs 0 0 (QX below G ad args s 1 5 (Zd (some (vI out.1)) out.2)) (F0 m 0 ls []) := by
  unfold f_X0_cut at hE
  refine e_aload_n X hl 0 rfl dX0_cut_0 rfl ?_
  obtain ⟨v1, h, hE⟩ := ob_some hE
  refine x_callV1 (rest := []) X hX 40 rfl ck_X0 (mx_X0_sumOfSupplies l G ad M h) (cwV 0 X.ht (lw_V q2543 q790 qs5 q127 q791) rfl rfl rfl hd_X0_sumOfSupplies (cxH (by decide) (by decide))) rfl hl.1 rfl (Nat.le_of_ble_eq_true rfl) dX0_cut_1 ⟨Nat.le_of_ble_eq_true rfl, Nat.le_of_ble_eq_true rfl⟩ 0 0 rfl rfl (fun hp0 H locs hX => ?_)
  refine e_if_ne X (w32 v1) rfl hE dX0_cut_4 rfl (fun hE => ?_) (fun hE => ?_)
  · refine e_bipush X dX0_cut_17 (by decide) ?_
    cases hE
    exact x_zret (x := (-3)) X hX ⟨rfl, rfl⟩ rfl (Nat.le_of_ble_eq_true rfl) (Nat.le_of_ble_eq_true rfl) dX0_cut_19
  · refine e_aload_n X hl 0 rfl dX0_cut_7 rfl ?_
    obtain ⟨M2, h, hE⟩ := ob_some hE
    refine x_callV1 (rest := []) X hX 40 rfl ck_X0 (mx_X0_solved l G ad M h) (cwV 0 X.ht (lw_V q2071 q2073 qs38 q127 q2074) rfl rfl rfl hd_X0_solved (cxH (by decide) (by decide))) rfl hl.1 rfl (Nat.le_of_ble_eq_true rfl) dX0_cut_8 ⟨Nat.le_of_ble_eq_true rfl, Nat.le_of_ble_eq_true rfl⟩ 1 5 rfl rfl (fun hp0 H locs hX => ?_)
    obtain ⟨v3, h, hE⟩ := ob_some hE
    refine x_subV1r (rest := []) X hX (subN nb1) rfl (100 + 20) (dn nb1 20 rfl) ck_X1 (fun hp => met_X1_cut l G ad hp 100 (nbN 100) M2 h) (cwV 0 X.ht (lw_V q2544 q2545 q2546 q132 q2547) rfl rfl rfl hd_X1_cut (cxH (by decide) (by decide))) rfl hl.1 rfl (Nat.le_of_ble_eq_true rfl) dX0_cut_11 ⟨Nat.le_of_ble_eq_true rfl, Nat.le_of_ble_eq_true rfl⟩ (fun H locs hX => ?_)
    refine e_goto X dX0_cut_14 rfl ?_
    cases hE
    exact x_zret X hX ⟨rfl, rfl⟩ rfl (Nat.le_of_ble_eq_true rfl) (Nat.le_of_ble_eq_true rfl) dX0_cut_19
theorem mx_X0_cut (l : Launch) (G : GG) (ad : Nat → Nat) {N : Nat} (M : RM)   {out : (Int × RM)} (hE : f_X0_cut N M = some out) : MX l yX0_cut (ws_ yX0_cut cX0_cut 1 (some .int)) 11 1 5 G ad [.ref (ad 40)] M (Zd (some (vI out.1)) out.2) :=
  MX.of (by decide +kernel) (Nat.le_of_ble_eq_true rfl) rfl (fun p e s m below meth c ls hp0 X hX hl => wb_X0_cut X hE hX hl)
def f_X0_step (N : Nat) (M : RM) (a1 : Int) (a2 : Int) : Option (Int × RM) :=
  ob (f_X0_areTowns M a1 a2) fun v1 => if ¬ w32 v1 = 0 then (ob2 (f_X0_isFlow N M) fun v2 M3 => if w32 v2 = 0 then (some ((-3), M3)) else (ob (f_X1_cheapest 100 N M3 a1 a2) fun v4 => some (v4, M3))) else (some ((-1), M))
theorem hd_X0_step : yX0_step.cls = RX0 ∧ yX0_step.cls ≠ "java/lang/invoke/MethodHandle" ∧ yX0_step.cls ≠ "java/lang/invoke/VarHandle" ∧ (parseMethodDescriptor yX0_step.desc).map (fun d => d.parameters.length) = some 2 := by decide +kernel
theorem wb_X0_step {p : Program} {l : Launch} {e : Env} {s : State} {m : MethodId} {args : Array Value} {below : List Frame} {meth : Method} {c : Code} {G : GG} {ad : Nat → Nat} (X : CX p s m args meth c cX0_step 3 RX0 (some .int) G) {N : Nat} {M : RM} {a1 : Int} {a2 : Int}  {out : (Int × RM)} (hE : f_X0_step N M a1 a2 = some out) {H : Heap} {locs : List Loc} {ls : Array Slot} {hp0 : HP} (hX : XR G ad hp0 M H locs) (hl : lv_has ls 3 [(0, .ref (ad 40)), (1, vI a1), (2, vI a2)]) : W p l e (rmA 12 1 5) s m args below meth c H locs 0 0 (QX below G ad args s 1 5 (Zd (some (vI out.1)) out.2)) (F0 m 0 ls []) := by
  unfold f_X0_step at hE
  refine e_aload_n X hl 0 rfl dX0_step_0 rfl ?_
  refine e_iload_n X hl 1 rfl dX0_step_1 rfl ?_
  refine e_iload_n X hl 2 rfl dX0_step_2 rfl ?_
  obtain ⟨v1, h, hE⟩ := ob_some hE
  refine x_callV1 (rest := []) X hX 40 rfl ck_X0 (mx_X0_areTowns l G ad M a1 a2 h) (cwV 2 X.ht (lw_V q1498 q1500 qs21 q127 q1501) rfl rfl rfl hd_X0_areTowns (cxH (by decide) (by decide))) rfl hl.1 rfl (Nat.le_of_ble_eq_true rfl) dX0_step_3 ⟨Nat.le_of_ble_eq_true rfl, Nat.le_of_ble_eq_true rfl⟩ 0 0 rfl rfl (fun hp0 H locs hX => ?_)
  refine e_if_ne X (w32 v1) rfl hE dX0_step_6 rfl (fun hE => ?_) (fun hE => ?_)
  · refine e_aload_n X hl 0 rfl dX0_step_11 rfl ?_
    obtain ⟨v2, M3, h, hE⟩ := ob2_some hE
    refine x_callV1 (rest := []) X hX 40 rfl ck_X0 (mx_X0_isFlow l G ad M h) (cwV 0 X.ht (lw_V q2067 q2069 qs37 q127 q2070) rfl rfl rfl hd_X0_isFlow (cxH (by decide) (by decide))) rfl hl.1 rfl (Nat.le_of_ble_eq_true rfl) dX0_step_12 ⟨Nat.le_of_ble_eq_true rfl, Nat.le_of_ble_eq_true rfl⟩ 1 5 rfl rfl (fun hp0 H locs hX => ?_)
    refine e_if_eq X (w32 v2) rfl hE dX0_step_15 rfl (fun hE => ?_) (fun hE => ?_)
    · refine e_bipush X dX0_step_30 (by decide) ?_
      cases hE
      exact x_zret (x := (-3)) X hX ⟨rfl, rfl⟩ rfl (Nat.le_of_ble_eq_true rfl) (Nat.le_of_ble_eq_true rfl) dX0_step_32
    · refine e_aload_n X hl 0 rfl dX0_step_18 rfl ?_
      refine r_getR X hX.1 ck_X0 40 3 rfl rfl (by decide) q1228 rfl dX0_step_19 ?_
      refine e_iload_n X hl 1 rfl dX0_step_22 rfl ?_
      refine e_iload_n X hl 2 rfl dX0_step_23 rfl ?_
      obtain ⟨v4, h, hE⟩ := ob_some hE
      refine x_subV1r (rest := []) X hX (subN nb1) rfl (100 + 20) (dn nb1 20 rfl) ck_X1 (fun hp => met_X1_cheapest l G ad hp 100 (nbN 100) M3 a1 a2 h) (cwV 2 X.ht (lw_V q2552 q2553 q2554 q132 q2555) rfl rfl rfl hd_X1_cheapest (cxH (by decide) (by decide))) rfl hl.1 rfl (Nat.le_of_ble_eq_true rfl) dX0_step_24 ⟨Nat.le_of_ble_eq_true rfl, Nat.le_of_ble_eq_true rfl⟩ (fun H locs hX => ?_)
      refine e_goto X dX0_step_27 rfl ?_
      cases hE
      exact x_zret X hX ⟨rfl, rfl⟩ rfl (Nat.le_of_ble_eq_true rfl) (Nat.le_of_ble_eq_true rfl) dX0_step_32
  · refine e_iconst X dX0_step_9 ?_
    cases hE
    exact x_zret (x := (-1)) X hX ⟨rfl, rfl⟩ rfl (Nat.le_of_ble_eq_true rfl) (Nat.le_of_ble_eq_true rfl) dX0_step_10
theorem mx_X0_step (l : Launch) (G : GG) (ad : Nat → Nat) {N : Nat} (M : RM) (a1 : Int) (a2 : Int)  {out : (Int × RM)} (hE : f_X0_step N M a1 a2 = some out) : MX l yX0_step (ws_ yX0_step cX0_step 3 (some .int)) 12 1 5 G ad [.ref (ad 40), vI a1, vI a2] M (Zd (some (vI out.1)) out.2) :=
  MX.of (by decide +kernel) (Nat.le_of_ble_eq_true rfl) rfl (fun p e s m below meth c ls hp0 X hX hl => wb_X0_step X hE hX hl)
