/-! the dynamic methods of FreightRoads, over the abstract heap: by program -/
set_option maxRecDepth 100000
def w_X7_init (G : GG) (hp : HP) (this : Nat) (a1 : Int) (a2 : Int) (Q : HP → Prop) : Prop :=
  hPut hp this 7 0 (vI a1) fun hp1 => hPut hp1 this 7 1 (vI a2) fun hp2 => Q hp2
theorem hd_X7_init : yX7_init.cls ≠ "java/lang/invoke/MethodHandle" ∧ yX7_init.cls ≠ "java/lang/invoke/VarHandle" ∧ (parseMethodDescriptor yX7_init.desc).map (fun d => d.parameters.length) = some 2 := by decide +kernel
theorem hwb_X7_init {p : Program} {l : Launch} {e : Env} {s : State} {m : MethodId} {args : Array Value} {below : List Frame} {meth : Method} {c : Code} {G : GG} (X : CX p s m args meth c cX7_init 3 RX7 none G) (hin : meth.name = "<init>") {Q : HP → Prop} {hp : HP} {this : Nat} {a1 : Int} {a2 : Int} (hE : w_X7_init G hp this a1 a2 Q) {H : Heap} {locs : List Loc} {ls : Array Slot} (hW : WH G hp H locs) (hl : lv_has ls 3 [(0, .ref this), (1, vI a1), (2, vI a2)]) : W p l e (rmA 1 0 0) s m args below meth c H locs 0 0 (QH below G args s 0 0 (pV Q)) (F0 m 0 ls []) := by
  unfold w_X7_init at hE
  refine e_aload_n X hl 0 rfl dX7_init_0 rfl ?_
  refine h_objInit X hl.1 q1357 (Nat.le_of_ble_eq_true rfl) dX7_init_1 q204 q205 (by decide) ?_
  refine e_aload_n X hl 0 rfl dX7_init_4 rfl ?_
  refine e_iload_n X hl 1 rfl dX7_init_5 rfl ?_
  refine h_putF X hW ck_X7 (k := 0) hE (by decide) q1358 (fun _ h => h) rfl hin rfl rfl (fit_I _) dX7_init_6 (fun hp1 hE H locs hW => ?_)
  refine e_aload_n X hl 0 rfl dX7_init_9 rfl ?_
  refine e_iload_n X hl 2 rfl dX7_init_10 rfl ?_
  refine h_putF X hW ck_X7 (k := 1) hE (by decide) q1360 (fun _ h => h) rfl hin rfl rfl (fit_I _) dX7_init_11 (fun hp2 hE H locs hW => ?_)
  exact h_vret X hW hE (Nat.le_of_ble_eq_true rfl) (Nat.le_of_ble_eq_true rfl) dX7_init_14
theorem mh_X7_init (l : Launch) (G : GG) (hp : HP) (this : Nat) (a1 : Int) (a2 : Int) (Q : HP → Prop) (hE : w_X7_init G hp this a1 a2 Q) : MH l yX7_init (ws_ yX7_init cX7_init 3 none) 1 0 0 G [.ref this, vI a1, vI a2] hp (pV Q) :=
  MH.of (by decide +kernel) (Nat.le_of_ble_eq_true rfl) rfl (fun p e s m below meth c ls X hin hW hl => hwb_X7_init X hin hE hW hl)
def w_X7_bounded (G : GG) (hp : HP) (this : Nat) (a1 : Int) (a2 : Int) (a3 : Int) (Q : Option Nat → HP → Prop) : Prop :=
  hPut hp this 7 2 (vI a1) fun hp1 => hPut hp1 this 7 3 (vI a2) fun hp2 => hPut hp2 this 7 4 (vL a3) fun hp3 => Q (some this) hp3
theorem hd_X7_bounded : yX7_bounded.cls = RX7 ∧ yX7_bounded.cls ≠ "java/lang/invoke/MethodHandle" ∧ yX7_bounded.cls ≠ "java/lang/invoke/VarHandle" ∧ (parseMethodDescriptor yX7_bounded.desc).map (fun d => d.parameters.length) = some 3 := by decide +kernel
theorem hwb_X7_bounded {p : Program} {l : Launch} {e : Env} {s : State} {m : MethodId} {args : Array Value} {below : List Frame} {meth : Method} {c : Code} {G : GG} (X : CX p s m args meth c cX7_bounded 5 RX7 (some (.object "FreightRoads$Road")) G) {Q : Option Nat → HP → Prop} {hp : HP} {this : Nat} {a1 : Int} {a2 : Int} {a3 : Int} (hE : w_X7_bounded G hp this a1 a2 a3 Q) {H : Heap} {locs : List Loc} {ls : Array Slot} (hW : WH G hp H locs) (hl : lv_has ls 5 [(0, .ref this), (1, vI a1), (2, vI a2), (3, vL a3)]) : W p l e (rmA 0 0 0) s m args below meth c H locs 0 0 (QH below G args s 0 0 (pR Q)) (F0 m 0 ls []) := by
  unfold w_X7_bounded at hE
  refine e_aload_n X hl 0 rfl dX7_bounded_0 rfl ?_
  refine e_iload_n X hl 1 rfl dX7_bounded_1 rfl ?_
  refine h_put X hW ck_X7 (k := 2) hE (by decide) q1362 (fun _ h => h) rfl rfl (fit_I _) dX7_bounded_2 (fun hp1 hE H locs hW => ?_)
  refine e_aload_n X hl 0 rfl dX7_bounded_5 rfl ?_
  refine e_iload_n X hl 2 rfl dX7_bounded_6 rfl ?_
  refine h_put X hW ck_X7 (k := 3) hE (by decide) q1364 (fun _ h => h) rfl rfl (fit_I _) dX7_bounded_7 (fun hp2 hE H locs hW => ?_)
  refine e_aload_n X hl 0 rfl dX7_bounded_10 rfl ?_
  refine e_lload_n X hl 3 rfl dX7_bounded_11 rfl ?_
  refine h_put X hW ck_X7 (k := 4) hE (by decide) q1366 (fun _ h => h) rfl rfl (fit_J _) dX7_bounded_12 (fun hp3 hE H locs hW => ?_)
  refine e_aload_n X hl 0 rfl dX7_bounded_15 rfl ?_
  exact h_rret (r := some this) X hW (Or.inl ⟨_, rfl⟩) hE (Nat.le_of_ble_eq_true rfl) (Nat.le_of_ble_eq_true rfl) dX7_bounded_16
theorem mh_X7_bounded (l : Launch) (G : GG) (hp : HP) (this : Nat) (a1 : Int) (a2 : Int) (a3 : Int) (Q : Option Nat → HP → Prop) (hE : w_X7_bounded G hp this a1 a2 a3 Q) : MH l yX7_bounded (ws_ yX7_bounded cX7_bounded 5 (some (.object "FreightRoads$Road"))) 0 0 0 G [.ref this, vI a1, vI a2, vL a3] hp (pR Q) :=
  MH.of (by decide +kernel) (Nat.le_of_ble_eq_true rfl) rfl (fun p e s m below meth c ls X hin hW hl => hwb_X7_bounded X hE hW hl)
def w_X7_copy (G : GG) (hp : HP) (this : Nat) (Q : Option Nat → HP → Prop) : Prop :=
  hNew hp 7 df_X7 fun hp1 q2 => hI hp1 this 7 0 fun v3 => hI hp1 this 7 1 fun v4 => w_X7_init G hp1 q2 v3 v4 (fun hp5 => hI hp5 this 7 2 fun v6 => hI hp5 this 7 3 fun v7 => hJ hp5 this 7 4 fun v8 => hIs hp5 q2 7 (w_X7_bounded G hp5 q2 v6 v7 v8 (fun r10 hp9 => Q r10 hp9)))
theorem hd_X7_copy : yX7_copy.cls = RX7 ∧ yX7_copy.cls ≠ "java/lang/invoke/MethodHandle" ∧ yX7_copy.cls ≠ "java/lang/invoke/VarHandle" ∧ (parseMethodDescriptor yX7_copy.desc).map (fun d => d.parameters.length) = some 0 := by decide +kernel
theorem hwb_X7_copy {p : Program} {l : Launch} {e : Env} {s : State} {m : MethodId} {args : Array Value} {below : List Frame} {meth : Method} {c : Code} {G : GG} (X : CX p s m args meth c cX7_copy 1 RX7 (some (.object "FreightRoads$Road")) G) {Q : Option Nat → HP → Prop} {hp : HP} {this : Nat} (hE : w_X7_copy G hp this Q) {H : Heap} {locs : List Loc} {ls : Array Slot} (hW : WH G hp H locs) (hl : lv_has ls 1 [(0, .ref this)]) : W p l e (rmA 2 1 5) s m args below meth c H locs 0 0 (QH below G args s 1 5 (pR Q)) (F0 m 0 ls []) := by
  unfold w_X7_copy at hE
  refine h_new X hW ck_X7 hE q1352 q1353 q172 dflt_X7 (Nat.le_of_ble_eq_true rfl) (Nat.le_of_ble_eq_true rfl) (1) (5) rfl rfl dX7_copy_0 (fun hp1 q2 hE H locs hW => ?_)
  refine e_dup X dX7_copy_3 rfl ?_
  refine e_aload_n X hl 0 rfl dX7_copy_4 rfl ?_
  refine h_getI X hW ck_X7 (k := 0) hE (by decide) q1358 (fun _ h => h) dX7_copy_5 (fun v3 hE => ?_)
  refine e_aload_n X hl 0 rfl dX7_copy_8 rfl ?_
  refine h_getI X hW ck_X7 (k := 1) hE (by decide) q1360 (fun _ h => h) dX7_copy_9 (fun v4 hE => ?_)
  refine h_callI (rest := [.ref q2]) (As := [vI v3, vI v4]) X hW (mh_X7_init l G hp1 q2 v3 v4 _ hE) (cwI 2 X.ht (lw_meth q1356) rfl rfl rfl (X.ht _ q172) (X.ht _ q1354) (X.ht _ q1355) rfl hd_X7_init (cxH (by decide) (by decide))) rfl hl.1 rfl (Nat.le_of_ble_eq_true rfl) dX7_copy_12 ⟨(Nat.le_of_ble_eq_true rfl), (Nat.le_of_ble_eq_true rfl)⟩ (1) (5) rfl rfl (fun hp5 hE H locs hW => ?_)
  refine e_aload_n X hl 0 rfl dX7_copy_15 rfl ?_
  refine h_getI X hW ck_X7 (k := 2) hE (by decide) q1362 (fun _ h => h) dX7_copy_16 (fun v6 hE => ?_)
  refine e_aload_n X hl 0 rfl dX7_copy_19 rfl ?_
  refine h_getI X hW ck_X7 (k := 3) hE (by decide) q1364 (fun _ h => h) dX7_copy_20 (fun v7 hE => ?_)
  refine e_aload_n X hl 0 rfl dX7_copy_23 rfl ?_
  refine h_getJ X hW ck_X7 (k := 4) hE (by decide) q1366 (fun _ h => h) dX7_copy_24 (fun v8 hE => ?_)
  obtain ⟨⟨fs, he⟩, hE⟩ := hE
  refine h_callVR (rest := []) (As := [vI v6, vI v7, vL v8]) X hW he ck_X7 (mh_X7_bounded l G hp5 q2 v6 v7 v8 _ hE) (cwV 3 X.ht (lw_V q1379 q1380 q1381 q172 q1382) rfl rfl rfl hd_X7_bounded (cxH (by decide) (by decide))) rfl hl.1 rfl (Nat.le_of_ble_eq_true rfl) dX7_copy_27 ⟨(Nat.le_of_ble_eq_true rfl), (Nat.le_of_ble_eq_true rfl)⟩ (1) (5) rfl rfl (fun r10 hp9 hE H locs hW => ?_)
  exact h_rret (r := r10) X hW (Or.inl ⟨_, rfl⟩) hE (Nat.le_of_ble_eq_true rfl) (Nat.le_of_ble_eq_true rfl) dX7_copy_30
theorem mh_X7_copy (l : Launch) (G : GG) (hp : HP) (this : Nat) (Q : Option Nat → HP → Prop) (hE : w_X7_copy G hp this Q) : MH l yX7_copy (ws_ yX7_copy cX7_copy 1 (some (.object "FreightRoads$Road"))) 2 1 5 G [.ref this] hp (pR Q) :=
  MH.of (by decide +kernel) (Nat.le_of_ble_eq_true rfl) rfl (fun p e s m below meth c ls X hin hW hl => hwb_X7_copy X hE hW hl)
def w_X0_isIn (G : GG) (hp : HP) (a1 : Int) (a2 : Int) (a3 : Int) (Q : Int → HP → Prop) : Prop :=
  hIf (w64 a1 < w64 a2) (Q 0 hp) (hIf (w64 a3 < w64 a1) (Q 0 hp) (Q 1 hp))
theorem hwb_X0_isIn {p : Program} {l : Launch} {e : Env} {s : State} {m : MethodId} {args : Array Value} {below : List Frame} {meth : Method} {c : Code} {G : GG} (X : CX p s m args meth c cX0_isIn 6 RX0 (some .boolean) G) {Q : Int → HP → Prop} {hp : HP} {a1 : Int} {a2 : Int} {a3 : Int} (hE : w_X0_isIn G hp a1 a2 a3 Q) {H : Heap} {locs : List Loc} {ls : Array Slot} (hW : WH G hp H locs) (hl : lv_has ls 6 [(0, vL a1), (2, vL a2), (4, vL a3)]) : W p l e (rmA 0 0 0) s m args below meth c H locs 0 0 (QH below G args s 0 0 (pI Q)) (F0 m 0 ls []) := by
  unfold w_X0_isIn at hE
  refine e_lload_n X hl 0 rfl dX0_isIn_0 rfl ?_
  refine e_lload_n X hl 1 rfl dX0_isIn_1 rfl ?_
  refine h_lcmp_lt X (w64 a1) (w64 a2) rfl rfl hE dX0_isIn_2 dX0_isIn_3 rfl (fun hE => ?_) (fun hE => ?_)
  · refine e_iconst X dX0_isIn_17 ?_
    exact h_zret (x := 0) X hW hE rfl (Nat.le_of_ble_eq_true rfl) (Nat.le_of_ble_eq_true rfl) dX0_isIn_18
  · refine e_lload_n X hl 0 rfl dX0_isIn_6 rfl ?_
    refine e_lload X hl 2 rfl dX0_isIn_7 ?_
    refine h_lcmp_gt X (w64 a1) (w64 a3) rfl rfl hE dX0_isIn_9 dX0_isIn_10 rfl (fun hE => ?_) (fun hE => ?_)
    · refine e_iconst X dX0_isIn_17 ?_
      exact h_zret (x := 0) X hW hE rfl (Nat.le_of_ble_eq_true rfl) (Nat.le_of_ble_eq_true rfl) dX0_isIn_18
    · refine e_iconst X dX0_isIn_13 ?_
      refine e_goto X dX0_isIn_14 rfl ?_
      exact h_zret (x := 1) X hW hE rfl (Nat.le_of_ble_eq_true rfl) (Nat.le_of_ble_eq_true rfl) dX0_isIn_18
theorem mh_X0_isIn (l : Launch) (G : GG) (hp : HP) (a1 : Int) (a2 : Int) (a3 : Int) (Q : Int → HP → Prop) (hE : w_X0_isIn G hp a1 a2 a3 Q) : MH l yX0_isIn (ws_ yX0_isIn cX0_isIn 6 (some .boolean)) 0 0 0 G [vL a1, vL a2, vL a3] hp (pI Q) :=
  MH.of (by decide +kernel) (Nat.le_of_ble_eq_true rfl) rfl (fun p e s m below meth c ls X hin hW hl => hwb_X0_isIn X hE hW hl)
def w_X7_may (G : GG) (hp : HP) (a1 : Int) (a2 : Int) (a3 : Int) (Q : Int → HP → Prop) : Prop :=
  w_X0_isIn G hp (w32 a1) 0 (w32 a2) (fun v2 hp1 => hIf (w32 v2 = 0) (Q 0 hp1) (w_X0_isIn G hp1 (w32 a2) 0 99 (fun v4 hp3 => hIf (w32 v4 = 0) (Q 0 hp3) (w_X0_isIn G hp3 a3 (-100000000000000000) 100000000000000000 (fun v6 hp5 => hIf (w32 v6 = 0) (Q 0 hp5) (Q 1 hp5))))))
theorem hd_X7_may : yX7_may.cls ≠ "java/lang/invoke/MethodHandle" ∧ yX7_may.cls ≠ "java/lang/invoke/VarHandle" ∧ (parseMethodDescriptor yX7_may.desc).map (fun d => d.parameters.length) = some 3 := by decide +kernel
theorem hwb_X7_may {p : Program} {l : Launch} {e : Env} {s : State} {m : MethodId} {args : Array Value} {below : List Frame} {meth : Method} {c : Code} {G : GG} (X : CX p s m args meth c cX7_may 4 RX7 (some .boolean) G) {Q : Int → HP → Prop} {hp : HP} {a1 : Int} {a2 : Int} {a3 : Int} (hE : w_X7_may G hp a1 a2 a3 Q) {H : Heap} {locs : List Loc} {ls : Array Slot} (hW : WH G hp H locs) (hl : lv_has ls 4 [(0, vI a1), (1, vI a2), (2, vL a3)]) : W p l e (rmA 1 0 0) s m args below meth c H locs 0 0 (QH below G args s 0 0 (pI Q)) (F0 m 0 ls []) := by
  unfold w_X7_may at hE
  refine e_iload_n X hl 0 rfl dX7_may_0 rfl ?_
  refine e_i2l X dX7_may_1 ?_
  refine e_lconst X 0 dX7_may_2 (by decide) ?_
  refine e_iload_n X hl 1 rfl dX7_may_3 rfl ?_
  refine e_i2l X dX7_may_4 ?_
  refine h_callSNI (rest := []) (As := [vL (w32 a1), vL 0, vL (w32 a2)]) X hW (mh_X0_isIn l G hp (w32 a1) 0 (w32 a2) _ hE) q1505 q1423 q127 q1424 hd_X0_isIn (by decide) (by decide) rfl hl.1 rfl (Nat.le_of_ble_eq_true rfl) dX7_may_5 ⟨(Nat.le_of_ble_eq_true rfl), (Nat.le_of_ble_eq_true rfl)⟩ (0) (0) rfl rfl (fun v2 hp1 hE H locs hW => ?_)
  refine h_if_eq X (w32 v2) rfl hE dX7_may_8 rfl (fun hE => ?_) (fun hE => ?_)
  · refine e_iconst X dX7_may_40 ?_
    exact h_zret (x := 0) X hW hE rfl (Nat.le_of_ble_eq_true rfl) (Nat.le_of_ble_eq_true rfl) dX7_may_41
  · refine e_iload_n X hl 1 rfl dX7_may_11 rfl ?_
    refine e_i2l X dX7_may_12 ?_
    refine e_lconst X 0 dX7_may_13 (by decide) ?_
    refine e_ldc2 X 99 q1506 (by decide) dX7_may_14 ?_
    refine h_callSNI (rest := []) (As := [vL (w32 a2), vL 0, vL 99]) X hW (mh_X0_isIn l G hp1 (w32 a2) 0 99 _ hE) q1505 q1423 q127 q1424 hd_X0_isIn (by decide) (by decide) rfl hl.1 rfl (Nat.le_of_ble_eq_true rfl) dX7_may_17 ⟨(Nat.le_of_ble_eq_true rfl), (Nat.le_of_ble_eq_true rfl)⟩ (0) (0) rfl rfl (fun v4 hp3 hE H locs hW => ?_)
    refine h_if_eq X (w32 v4) rfl hE dX7_may_20 rfl (fun hE => ?_) (fun hE => ?_)
    · refine e_iconst X dX7_may_40 ?_
      exact h_zret (x := 0) X hW hE rfl (Nat.le_of_ble_eq_true rfl) (Nat.le_of_ble_eq_true rfl) dX7_may_41
    · refine e_lload_n X hl 2 rfl dX7_may_23 rfl ?_
      refine e_ldc2 X (-100000000000000000) q1507 (by decide) dX7_may_24 ?_
      refine e_ldc2 X 100000000000000000 q1508 (by decide) dX7_may_27 ?_
      refine h_callSNI (rest := []) (As := [vL a3, vL (-100000000000000000), vL 100000000000000000]) X hW (mh_X0_isIn l G hp3 a3 (-100000000000000000) 100000000000000000 _ hE) q1505 q1423 q127 q1424 hd_X0_isIn (by decide) (by decide) rfl hl.1 rfl (Nat.le_of_ble_eq_true rfl) dX7_may_30 ⟨(Nat.le_of_ble_eq_true rfl), (Nat.le_of_ble_eq_true rfl)⟩ (0) (0) rfl rfl (fun v6 hp5 hE H locs hW => ?_)
      refine h_if_eq X (w32 v6) rfl hE dX7_may_33 rfl (fun hE => ?_) (fun hE => ?_)
      · refine e_iconst X dX7_may_40 ?_
        exact h_zret (x := 0) X hW hE rfl (Nat.le_of_ble_eq_true rfl) (Nat.le_of_ble_eq_true rfl) dX7_may_41
      · refine e_iconst X dX7_may_36 ?_
        refine e_goto X dX7_may_37 rfl ?_
        exact h_zret (x := 1) X hW hE rfl (Nat.le_of_ble_eq_true rfl) (Nat.le_of_ble_eq_true rfl) dX7_may_41
theorem mh_X7_may (l : Launch) (G : GG) (hp : HP) (a1 : Int) (a2 : Int) (a3 : Int) (Q : Int → HP → Prop) (hE : w_X7_may G hp a1 a2 a3 Q) : MH l yX7_may (ws_ yX7_may cX7_may 4 (some .boolean)) 1 0 0 G [vI a1, vI a2, vL a3] hp (pI Q) :=
  MH.of (by decide +kernel) (Nat.le_of_ble_eq_true rfl) rfl (fun p e s m below meth c ls X hin hW hl => hwb_X7_may X hE hW hl)
def w_X7_figure (G : GG) (hp : HP) (this : Nat) (a1 : Int) (Q : Int → HP → Prop) : Prop :=
  hIf (w32 a1 = 0) (hI hp this 7 0 fun v1 => Q (w32 v1) hp) (hIf (w32 a1 = 1) (hI hp this 7 1 fun v2 => Q (w32 v2) hp) (hIf (w32 a1 = 2) (hI hp this 7 2 fun v3 => Q (w32 v3) hp) (hIf (w32 a1 = 3) (hI hp this 7 3 fun v4 => Q (w32 v4) hp) (hJ hp this 7 4 fun v5 => Q v5 hp))))
theorem hd_X7_figure : yX7_figure.cls = RX7 ∧ yX7_figure.cls ≠ "java/lang/invoke/MethodHandle" ∧ yX7_figure.cls ≠ "java/lang/invoke/VarHandle" ∧ (parseMethodDescriptor yX7_figure.desc).map (fun d => d.parameters.length) = some 1 := by decide +kernel
theorem hwb_X7_figure {p : Program} {l : Launch} {e : Env} {s : State} {m : MethodId} {args : Array Value} {below : List Frame} {meth : Method} {c : Code} {G : GG} (X : CX p s m args meth c cX7_figure 2 RX7 (some .long) G) {Q : Int → HP → Prop} {hp : HP} {this : Nat} {a1 : Int} (hE : w_X7_figure G hp this a1 Q) {H : Heap} {locs : List Loc} {ls : Array Slot} (hW : WH G hp H locs) (hl : lv_has ls 2 [(0, .ref this), (1, vI a1)]) : W p l e (rmA 0 0 0) s m args below meth c H locs 0 0 (QH below G args s 0 0 (pJ Q)) (F0 m 0 ls []) := by
  unfold w_X7_figure at hE
  refine e_iload_n X hl 1 rfl dX7_figure_0 rfl ?_
  refine h_case hE (fun h hE => ?_) (fun h0 hE => ?_)
  · refine e_tin X 0 h dX7_figure_1 (by decide) (by decide) rfl rfl ?_
    refine e_aload_n X hl 0 rfl dX7_figure_32 rfl ?_
    refine h_getI X hW ck_X7 (k := 0) hE (by decide) q1358 (fun _ h => h) dX7_figure_33 (fun v1 hE => ?_)
    refine e_i2l X dX7_figure_36 ?_
    refine e_goto X dX7_figure_37 rfl ?_
    exact h_lret X hW hE (Nat.le_of_ble_eq_true rfl) (Nat.le_of_ble_eq_true rfl) dX7_figure_68
  refine h_case hE (fun h hE => ?_) (fun h1 hE => ?_)
  · refine e_tin X 1 h dX7_figure_1 (by decide) (by decide) rfl rfl ?_
    refine e_aload_n X hl 0 rfl dX7_figure_40 rfl ?_
    refine h_getI X hW ck_X7 (k := 1) hE (by decide) q1360 (fun _ h => h) dX7_figure_41 (fun v2 hE => ?_)
    refine e_i2l X dX7_figure_44 ?_
    refine e_goto X dX7_figure_45 rfl ?_
    exact h_lret X hW hE (Nat.le_of_ble_eq_true rfl) (Nat.le_of_ble_eq_true rfl) dX7_figure_68
  refine h_case hE (fun h hE => ?_) (fun h2 hE => ?_)
  · refine e_tin X 2 h dX7_figure_1 (by decide) (by decide) rfl rfl ?_
    refine e_aload_n X hl 0 rfl dX7_figure_48 rfl ?_
    refine h_getI X hW ck_X7 (k := 2) hE (by decide) q1362 (fun _ h => h) dX7_figure_49 (fun v3 hE => ?_)
    refine e_i2l X dX7_figure_52 ?_
    refine e_goto X dX7_figure_53 rfl ?_
    exact h_lret X hW hE (Nat.le_of_ble_eq_true rfl) (Nat.le_of_ble_eq_true rfl) dX7_figure_68
  refine h_case hE (fun h hE => ?_) (fun h3 hE => ?_)
  · refine e_tin X 3 h dX7_figure_1 (by decide) (by decide) rfl rfl ?_
    refine e_aload_n X hl 0 rfl dX7_figure_56 rfl ?_
    refine h_getI X hW ck_X7 (k := 3) hE (by decide) q1364 (fun _ h => h) dX7_figure_57 (fun v4 hE => ?_)
    refine e_i2l X dX7_figure_60 ?_
    refine e_goto X dX7_figure_61 rfl ?_
    exact h_lret X hW hE (Nat.le_of_ble_eq_true rfl) (Nat.le_of_ble_eq_true rfl) dX7_figure_68
  refine e_tout X dX7_figure_1 (by omega) rfl ?_
  refine e_aload_n X hl 0 rfl dX7_figure_64 rfl ?_
  refine h_getJ X hW ck_X7 (k := 4) hE (by decide) q1366 (fun _ h => h) dX7_figure_65 (fun v5 hE => ?_)
  exact h_lret X hW hE (Nat.le_of_ble_eq_true rfl) (Nat.le_of_ble_eq_true rfl) dX7_figure_68
theorem mh_X7_figure (l : Launch) (G : GG) (hp : HP) (this : Nat) (a1 : Int) (Q : Int → HP → Prop) (hE : w_X7_figure G hp this a1 Q) : MH l yX7_figure (ws_ yX7_figure cX7_figure 2 (some .long)) 0 0 0 G [.ref this, vI a1] hp (pJ Q) :=
  MH.of (by decide +kernel) (Nat.le_of_ble_eq_true rfl) rfl (fun p e s m below meth c ls X hin hW hl => hwb_X7_figure X hE hW hl)
def w_X6_init (G : GG) (hp : HP) (this : Nat) (Q : HP → Prop) : Prop :=
  haN G hp 0 8 (.inl (fun _ => 0)) fun hp1 q2 => hPut hp1 this 6 0 (.ref q2) fun hp3 => haN G hp3 6 24 (.inr (.inr (.inr (.inr (fun _ => none))))) fun hp4 q5 => hPut hp4 this 6 1 (.ref q5) fun hp6 => Q hp6
theorem hd_X6_init : yX6_init.cls ≠ "java/lang/invoke/MethodHandle" ∧ yX6_init.cls ≠ "java/lang/invoke/VarHandle" ∧ (parseMethodDescriptor yX6_init.desc).map (fun d => d.parameters.length) = some 0 := by decide +kernel
theorem hwb_X6_init {p : Program} {l : Launch} {e : Env} {s : State} {m : MethodId} {args : Array Value} {below : List Frame} {meth : Method} {c : Code} {G : GG} (X : CX p s m args meth c cX6_init 1 RX6 none G) (hin : meth.name = "<init>") {Q : HP → Prop} {hp : HP} {this : Nat} (hE : w_X6_init G hp this Q) {H : Heap} {locs : List Loc} {ls : Array Slot} (hW : WH G hp H locs) (hl : lv_has ls 1 [(0, .ref this)]) : W p l e (rmA 1 2 32) s m args below meth c H locs 0 0 (QH below G args s 2 32 (pV Q)) (F0 m 0 ls []) := by
  unfold w_X6_init at hE
  refine e_aload_n X hl 0 rfl dX6_init_0 rfl ?_
  refine h_objInit X hl.1 q1437 (Nat.le_of_ble_eq_true rfl) dX6_init_1 q204 q205 (by decide) ?_
  refine e_aload_n X hl 0 rfl dX6_init_4 rfl ?_
  refine e_bipush X dX6_init_5 (by decide) ?_
  refine h_newarray X hW (t := 0) (n := 8) (ty := .int) (atype := .int) hE rfl (fun _ => rfl) (fun _ => rfl) q239 (Nat.le_of_ble_eq_true rfl) (Nat.le_of_ble_eq_true rfl) (Nat.le_of_ble_eq_true rfl) (Nat.le_of_ble_eq_true rfl) (1) (8) rfl rfl dX6_init_7 (fun hp1 q2 hE H locs hW => ?_) rfl
  refine h_putF X hW ck_X6 (k := 0) hE (by decide) q1440 (fun _ h => h) rfl hin rfl rfl (fit_A (some q2)) dX6_init_9 (fun hp3 hE H locs hW => ?_)
  refine e_aload_n X hl 0 rfl dX6_init_12 rfl ?_
  refine e_bipush X dX6_init_13 (by decide) ?_
  refine h_anewarray X hW (t := 6) (n := 24) hE (fun _ => rfl) q1438 (by decide) (Nat.le_of_ble_eq_true rfl) (Nat.le_of_ble_eq_true rfl) (Nat.le_of_ble_eq_true rfl) (2) (32) rfl rfl dX6_init_15 (fun hp4 q5 hE H locs hW => ?_) rfl
  refine h_putF X hW ck_X6 (k := 1) hE (by decide) q1442 (fun _ h => h) rfl hin rfl rfl (fit_A (some q5)) dX6_init_18 (fun hp6 hE H locs hW => ?_)
  exact h_vret X hW hE (Nat.le_of_ble_eq_true rfl) (Nat.le_of_ble_eq_true rfl) dX6_init_21
theorem mh_X6_init (l : Launch) (G : GG) (hp : HP) (this : Nat) (Q : HP → Prop) (hE : w_X6_init G hp this Q) : MH l yX6_init (ws_ yX6_init cX6_init 1 none) 1 2 32 G [.ref this] hp (pV Q) :=
  MH.of (by decide +kernel) (Nat.le_of_ble_eq_true rfl) rfl (fun p e s m below meth c ls X hin hW hl => hwb_X6_init X hin hE hW hl)
def w_X11_init (G : GG) (hp : HP) (this : Nat) (a1 : Int) (Q : HP → Prop) : Prop :=
  haN G hp 0 8 (.inl (fun _ => 0)) fun hp1 q2 => hPut hp1 this 11 0 (.ref q2) fun hp3 => hPut hp3 this 11 1 (vI a1) fun hp4 => Q hp4
theorem hd_X11_init : yX11_init.cls ≠ "java/lang/invoke/MethodHandle" ∧ yX11_init.cls ≠ "java/lang/invoke/VarHandle" ∧ (parseMethodDescriptor yX11_init.desc).map (fun d => d.parameters.length) = some 1 := by decide +kernel
theorem hwb_X11_init {p : Program} {l : Launch} {e : Env} {s : State} {m : MethodId} {args : Array Value} {below : List Frame} {meth : Method} {c : Code} {G : GG} (X : CX p s m args meth c cX11_init 2 RX11 none G) (hin : meth.name = "<init>") {Q : HP → Prop} {hp : HP} {this : Nat} {a1 : Int} (hE : w_X11_init G hp this a1 Q) {H : Heap} {locs : List Loc} {ls : Array Slot} (hW : WH G hp H locs) (hl : lv_has ls 2 [(0, .ref this), (1, vI a1)]) : W p l e (rmA 1 1 8) s m args below meth c H locs 0 0 (QH below G args s 1 8 (pV Q)) (F0 m 0 ls []) := by
  unfold w_X11_init at hE
  refine e_aload_n X hl 0 rfl dX11_init_0 rfl ?_
  refine h_objInit X hl.1 q2899 (Nat.le_of_ble_eq_true rfl) dX11_init_1 q204 q205 (by decide) ?_
  refine e_aload_n X hl 0 rfl dX11_init_4 rfl ?_
  refine e_bipush X dX11_init_5 (by decide) ?_
  refine h_newarray X hW (t := 0) (n := 8) (ty := .int) (atype := .int) hE rfl (fun _ => rfl) (fun _ => rfl) q239 (Nat.le_of_ble_eq_true rfl) (Nat.le_of_ble_eq_true rfl) (Nat.le_of_ble_eq_true rfl) (Nat.le_of_ble_eq_true rfl) (1) (8) rfl rfl dX11_init_7 (fun hp1 q2 hE H locs hW => ?_) rfl
  refine h_putF X hW ck_X11 (k := 0) hE (by decide) q2900 (fun _ h => h) rfl hin rfl rfl (fit_A (some q2)) dX11_init_9 (fun hp3 hE H locs hW => ?_)
  refine e_aload_n X hl 0 rfl dX11_init_12 rfl ?_
  refine e_iload_n X hl 1 rfl dX11_init_13 rfl ?_
  refine h_putF X hW ck_X11 (k := 1) hE (by decide) q2902 (fun _ h => h) rfl hin rfl rfl (fit_I _) dX11_init_14 (fun hp4 hE H locs hW => ?_)
  exact h_vret X hW hE (Nat.le_of_ble_eq_true rfl) (Nat.le_of_ble_eq_true rfl) dX11_init_17
theorem mh_X11_init (l : Launch) (G : GG) (hp : HP) (this : Nat) (a1 : Int) (Q : HP → Prop) (hE : w_X11_init G hp this a1 Q) : MH l yX11_init (ws_ yX11_init cX11_init 2 none) 1 1 8 G [.ref this, vI a1] hp (pV Q) :=
  MH.of (by decide +kernel) (Nat.le_of_ble_eq_true rfl) rfl (fun p e s m below meth c ls X hin hW hl => hwb_X11_init X hin hE hW hl)
def w_X0_tight_L10 (G : GG) (b_2 : Option Nat) (k : HP → Int → Prop) : Nat → HP → Int → Prop
  | 0, _, _ => False
  | n + 1, hp, x1 =>
    hNn b_2 fun b5 => hIs hp b5 21 (w_J24_hasNext G hp b5 (fun v7 hp6 => hIf (w32 v7 = 0) (k hp6 x1) (hNn b_2 fun b8 => hIs hp6 b8 21 (w_J24_next G hp6 b8 (fun r10 hp9 => hCast hp9 7 r10 (hNn r10 fun b11 => hI hp9 b11 7 2 fun v12 => hNn r10 fun b13 => hI hp9 b13 7 3 fun v14 => hJn (fun (v16 : Int) => hJn (x1 + v16) fun v17 => w_X0_tight_L10 G b_2 k n hp9 v17) fun kj15 => hIf (¬ w32 v12 = w32 v14) (kj15 0) (kj15 1)))))))
def w_X0_tight (G : GG) (hp : HP) (this : Nat) (Q : Int → HP → Prop) : Prop :=
  hR hp this 0 2 fun r1 => hNn r1 fun b2 => hIs hp b2 12 (w_J2_iterator G hp b2 (fun r4 hp3 => ∃ n : Nat, w_X0_tight_L10 G r4 (fun (hp18 : HP) (v19 : Int) => Q v19 hp18) n hp3 0))
theorem hd_X0_tight : yX0_tight.cls = RX0 ∧ yX0_tight.cls ≠ "java/lang/invoke/MethodHandle" ∧ yX0_tight.cls ≠ "java/lang/invoke/VarHandle" ∧ (parseMethodDescriptor yX0_tight.desc).map (fun d => d.parameters.length) = some 0 := by decide +kernel
theorem hwl_X0_tight_10 {p : Program} {l : Launch} {e : Env} {s : State} {m : MethodId} {args : Array Value} {below : List Frame} {meth : Method} {c : Code} {G : GG} (X : CX p s m args meth c cX0_tight 4 RX0 (some .int) G) {Q : Int → HP → Prop} {b_2 : Option Nat} {k : HP → Int → Prop} : ∀ (n : Nat) (hp : HP) (x1 : Int) (H : Heap) (locs : List Loc) (ls : Array Slot) (hE : w_X0_tight_L10 G b_2 k n hp x1) (hW : WH G hp H locs) (hl : lv_has ls 4 [(1, vI x1), (2, va_rf b_2)]) (hk : ∀ (hp : HP) (x1 : Int) (H : Heap) (locs : List Loc) (ls : Array Slot), WH G hp H locs → lv_has ls 4 [(1, vI x1), (2, va_rf b_2)] → k hp x1 → W p l e (rmA 5 1 5) s m args below meth c H locs (1) (5) (QH below G args s 1 5 (pI Q)) (F0 m 51 ls [])), W p l e (rmA 5 1 5) s m args below meth c H locs (1) (5) (QH below G args s 1 5 (pI Q)) (F0 m 10 ls []) := by
  intro n
  induction n with
  | zero =>
    intro hp x1 H locs ls hE hW hl hk
    unfold w_X0_tight_L10 at hE
    exact hE.elim
  | succ n ih =>
    intro hp x1 H locs ls hE hW hl hk
    unfold w_X0_tight_L10 at hE
    refine e_aloadR_n X hl 1 rfl dX0_tight_10 rfl ?_
    refine h_nn0 hE (fun b5 hE => ?_)
    obtain ⟨⟨fs, he⟩, hE⟩ := hE
    refine h_callFI (rest := []) (As := []) X hW he ck_J24 (mh_J24_hasNext l G hp b5 _ hE) (cwH_F X 0 q866 q892 q894 q158 q896 (by decide +kernel) (by decide +kernel) (by decide) (by decide)) rfl hl.1 rfl (Nat.le_of_ble_eq_true rfl) dX0_tight_11 ⟨(Nat.le_of_ble_eq_true rfl), (Nat.le_of_ble_eq_true rfl)⟩ (1) (5) rfl rfl (fun v7 hp6 hE H locs hW => ?_)
    refine h_if_eq X (w32 v7) rfl hE dX0_tight_16 rfl (fun hE => ?_) (fun hE => ?_)
    · exact hk hp6 x1 _ _ _ hW (lv_sub hl [0, 1] rfl) hE
    · refine e_aloadR_n X hl 1 rfl dX0_tight_19 rfl ?_
      refine h_nn0 hE (fun b8 hE => ?_)
      obtain ⟨⟨fs, he⟩, hE⟩ := hE
      refine h_callFR (rest := []) (As := []) X hW he ck_J24 (mh_J24_next l G hp6 b8 _ hE) (cwH_F X 0 q917 q1103 q1105 q158 q1107 (by decide +kernel) (by decide +kernel) (by decide) (by decide)) rfl hl.1 rfl (Nat.le_of_ble_eq_true rfl) dX0_tight_20 ⟨(Nat.le_of_ble_eq_true rfl), (Nat.le_of_ble_eq_true rfl)⟩ (1) (5) rfl rfl (fun r10 hp9 hE H locs hW => ?_)
      refine h_castS X hW ck_X7 (r := r10) hE q1152 dX0_tight_25 (fun hE => ?_)
      refine e_astoreR_n X hl [(3, va_rf r10), (1, vI x1), (2, va_rf b_2)] dX0_tight_28 rfl (by decide) (by generalize b_2 = r; cases r <;> rfl) (fun ls hl => ?_)
      refine e_iload_n X hl 1 rfl dX0_tight_29 rfl ?_
      refine e_aloadR_n X hl 0 rfl dX0_tight_30 rfl ?_
      refine h_nn0 hE (fun b11 hE => ?_)
      refine h_getNI X hW ck_X7 (k := 2) hE (by decide) q1363 (fun _ h => h) dX0_tight_31 (fun v12 hE => ?_)
      refine e_aloadR_n X hl 0 rfl dX0_tight_34 rfl ?_
      refine h_nn0 hE (fun b13 hE => ?_)
      refine h_getNI X hW ck_X7 (k := 3) hE (by decide) q1365 (fun _ h => h) dX0_tight_35 (fun v14 hE => ?_)
      obtain ⟨kj15, hkj15, hE⟩ := h_jn hE
      have hjkj15 : ∀ (v16 : Int) (H : Heap) (locs : List Loc) (ls : Array Slot), WH G hp9 H locs → lv_has ls 4 [(2, va_rf b_2)] → kj15 v16 → W p l e (rmA 5 1 5) s m args below meth c H locs (1) (5) (QH below G args s 1 5 (pI Q)) (F0 m 46 ls [vI v16, vI x1]) := by
        intro v16 H locs ls hW hl hE
        subst hkj15
        refine e_iadd X dX0_tight_46 ?_
        refine h_top hE (fun v17 hE => ?_)
        refine e_istore_n X hl [(1, vI v17), (2, va_rf b_2)] dX0_tight_47 rfl (by decide) rfl (fun ls hl => ?_)
        refine e_goto X dX0_tight_48 rfl ?_
        exact ih hp9 v17 _ _ _ hE hW (lv_sub hl [0, 1] rfl) hk
      refine h_icmp_ne X (w32 v12) (w32 v14) rfl rfl hE dX0_tight_38 rfl (fun hE => ?_) (fun hE => ?_)
      · refine e_iconst X dX0_tight_45 ?_
        exact hjkj15 0 _ _ _ hW (lv_sub hl [2] rfl) hE
      · refine e_iconst X dX0_tight_41 ?_
        refine e_goto X dX0_tight_42 rfl ?_
        exact hjkj15 1 _ _ _ hW (lv_sub hl [2] rfl) hE
theorem hwb_X0_tight {p : Program} {l : Launch} {e : Env} {s : State} {m : MethodId} {args : Array Value} {below : List Frame} {meth : Method} {c : Code} {G : GG} (X : CX p s m args meth c cX0_tight 4 RX0 (some .int) G) {Q : Int → HP → Prop} {hp : HP} {this : Nat} (hE : w_X0_tight G hp this Q) {H : Heap} {locs : List Loc} {ls : Array Slot} (hW : WH G hp H locs) (hl : lv_has ls 4 [(0, .ref this)]) : W p l e (rmA 5 1 5) s m args below meth c H locs 0 0 (QH below G args s 1 5 (pI Q)) (F0 m 0 ls []) := by
  unfold w_X0_tight at hE
  refine e_iconst X dX0_tight_0 ?_
  refine e_istore_n X hl [(1, vI 0), (0, .ref this)] dX0_tight_1 rfl (by decide) rfl (fun ls hl => ?_)
  refine e_aload_n X hl 1 rfl dX0_tight_2 rfl ?_
  refine h_getR X hW ck_X0 (k := 2) hE (by decide) q1226 (fun _ h => h) dX0_tight_3 (fun r1 hE => ?_)
  refine h_nn0 hE (fun b2 hE => ?_)
  obtain ⟨⟨fs, he⟩, hE⟩ := hE
  refine h_callUR (rest := []) (As := []) X hW he ck_J3 (mh_J2_iterator l G hp b2 _ hE) (cwH_U X 0 q812 q813 q815 q816 q130 q817 q814 (by decide +kernel) (by decide) (by decide)) rfl hl.1 rfl (Nat.le_of_ble_eq_true rfl) dX0_tight_6 ⟨(Nat.le_of_ble_eq_true rfl), (Nat.le_of_ble_eq_true rfl)⟩ (1) (5) rfl rfl (fun r4 hp3 hE H locs hW => ?_)
  refine e_astoreR_n X hl [(2, va_rf r4), (1, vI 0), (0, .ref this)] dX0_tight_9 rfl (by decide) rfl (fun ls hl => ?_)
  obtain ⟨n, hE⟩ := hE
  refine hwl_X0_tight_10 X n hp3 0 _ _ _ hE hW (lv_sub hl [1, 0] rfl) (fun hp18 v19 H locs ls hW hl hE => ?_)
  refine e_iload_n X hl 0 rfl dX0_tight_51 rfl ?_
  exact h_zret X hW hE rfl (Nat.le_of_ble_eq_true rfl) (Nat.le_of_ble_eq_true rfl) dX0_tight_52
theorem mh_X0_tight (l : Launch) (G : GG) (hp : HP) (this : Nat) (Q : Int → HP → Prop) (hE : w_X0_tight G hp this Q) : MH l yX0_tight (ws_ yX0_tight cX0_tight 4 (some .int)) 5 1 5 G [.ref this] hp (pI Q) :=
  MH.of (by decide +kernel) (Nat.le_of_ble_eq_true rfl) rfl (fun p e s m below meth c ls X hin hW hl => hwb_X0_tight X hE hW hl)
def w_X0_changes (G : GG) (hp : HP) (this : Nat) (Q : HP → Prop) : Prop :=
  hPut hp this 0 5 (vI 0) fun hp1 => hPut hp1 this 0 6 (vI 0) fun hp2 => hPut hp2 this 0 7 (vI 0) fun hp3 => Q hp3
theorem hwb_X0_changes {p : Program} {l : Launch} {e : Env} {s : State} {m : MethodId} {args : Array Value} {below : List Frame} {meth : Method} {c : Code} {G : GG} (X : CX p s m args meth c cX0_changes 1 RX0 none G) {Q : HP → Prop} {hp : HP} {this : Nat} (hE : w_X0_changes G hp this Q) {H : Heap} {locs : List Loc} {ls : Array Slot} (hW : WH G hp H locs) (hl : lv_has ls 1 [(0, .ref this)]) : W p l e (rmA 0 0 0) s m args below meth c H locs 0 0 (QH below G args s 0 0 (pV Q)) (F0 m 0 ls []) := by
  unfold w_X0_changes at hE
  refine e_aload_n X hl 0 rfl dX0_changes_0 rfl ?_
  refine e_iconst X dX0_changes_1 ?_
  refine h_put X hW ck_X0 (k := 5) hE (by decide) q1230 (fun _ h => h) rfl rfl (fit_Z (by decide)) dX0_changes_2 (fun hp1 hE H locs hW => ?_)
  refine e_aload_n X hl 0 rfl dX0_changes_5 rfl ?_
  refine e_iconst X dX0_changes_6 ?_
  refine h_put X hW ck_X0 (k := 6) hE (by decide) q1231 (fun _ h => h) rfl rfl (fit_Z (by decide)) dX0_changes_7 (fun hp2 hE H locs hW => ?_)
  refine e_aload_n X hl 0 rfl dX0_changes_10 rfl ?_
  refine e_iconst X dX0_changes_11 ?_
  refine h_put X hW ck_X0 (k := 7) hE (by decide) q1232 (fun _ h => h) rfl rfl (fit_Z (by decide)) dX0_changes_12 (fun hp3 hE H locs hW => ?_)
  exact h_vret X hW hE (Nat.le_of_ble_eq_true rfl) (Nat.le_of_ble_eq_true rfl) dX0_changes_15
theorem mh_X0_changes (l : Launch) (G : GG) (hp : HP) (this : Nat) (Q : HP → Prop) (hE : w_X0_changes G hp this Q) : MH l yX0_changes (ws_ yX0_changes cX0_changes 1 none) 0 0 0 G [.ref this] hp (pV Q) :=
  MH.of (by decide +kernel) (Nat.le_of_ble_eq_true rfl) rfl (fun p e s m below meth c ls X hin hW hl => hwb_X0_changes X hE hW hl)
def w_X0_becomes_L32 (G : GG) (this : Nat) (b_1 : Option Nat) (k : HP → Int → Prop) : Nat → HP → Int → Prop
  | 0, _, _ => False
  | n + 1, hp, x2 =>
    hNn b_1 fun b13 => hI hp b13 6 3 fun v14 => hIf (w32 v14 ≤ w32 x2) (k hp x2) (hR hp this 0 2 fun r15 => hNn b_1 fun b16 => hR hp b16 6 1 fun r17 => hNn r17 fun b18 => haR G hp b18 6 x2 fun r19 => hNn r19 fun b20 => hIs hp b20 7 (w_X7_copy G hp b20 (fun r22 hp21 => hNn r15 fun b23 => hIs hp21 b23 12 (w_J3_addLast G hp21 b23 r22 (fun hp24 => hJn (x2 + 1) fun v25 => w_X0_becomes_L32 G this b_1 k n hp24 v25)))))
def w_X0_becomes (G : GG) (hp : HP) (this : Nat) (a1 : Option Nat) (Q : HP → Prop) : Prop :=
  hNn a1 fun b1 => hI hp b1 6 2 fun v2 => hPut hp this 0 0 (vI v2) fun hp3 => hNn a1 fun b4 => hR hp3 b4 6 0 fun r5 => hR hp3 this 0 1 fun r6 => hNn r6 fun b7 => hNn r5 fun b8 => hCpI G hp3 b8 0 b7 0 8 fun hp9 => hR hp9 this 0 2 fun r10 => hNn r10 fun b11 => hIs hp9 b11 12 (w_J3_clear G hp9 b11 (fun hp12 => w_X0_becomes_L32 G this a1 (fun (hp26 : HP) (v27 : Int) => hIs hp26 this 0 (w_X0_changes G hp26 this (fun hp28 => Q hp28))) 25 hp12 0))
theorem hd_X0_becomes : yX0_becomes.cls = RX0 ∧ yX0_becomes.cls ≠ "java/lang/invoke/MethodHandle" ∧ yX0_becomes.cls ≠ "java/lang/invoke/VarHandle" ∧ (parseMethodDescriptor yX0_becomes.desc).map (fun d => d.parameters.length) = some 1 := by decide +kernel
theorem hwl_X0_becomes_32 {p : Program} {l : Launch} {e : Env} {s : State} {m : MethodId} {args : Array Value} {below : List Frame} {meth : Method} {c : Code} {G : GG} (X : CX p s m args meth c cX0_becomes 3 RX0 none G) {Q : HP → Prop} {this : Nat} {b_1 : Option Nat} {k : HP → Int → Prop} : ∀ (n : Nat) (cc ss : Nat) (hcc : cc + n * 2 ≤ 50) (hss : ss + n * 8 ≤ 200) (hp : HP) (x2 : Int) (H : Heap) (locs : List Loc) (ls : Array Slot) (hE : w_X0_becomes_L32 G this b_1 k n hp x2) (hW : WH G hp H locs) (hl : lv_has ls 3 [(0, .ref this), (1, va_rf b_1), (2, vI x2)]) (hk : ∀ (hp : HP) (x2 : Int) (H : Heap) (locs : List Loc) (ls : Array Slot), WH G hp H locs → lv_has ls 3 [(0, .ref this), (1, va_rf b_1), (2, vI x2)] → k hp x2 → W p l e (rmA 4 50 200) s m args below meth c H locs (50) (200) (QH below G args s 50 200 (pV Q)) (F0 m 62 ls [])), W p l e (rmA 4 50 200) s m args below meth c H locs (cc) (ss) (QH below G args s 50 200 (pV Q)) (F0 m 32 ls []) := by
  intro n
  induction n with
  | zero =>
    intro cc ss hcc hss hp x2 H locs ls hE hW hl hk
    unfold w_X0_becomes_L32 at hE
    exact hE.elim
  | succ n ih =>
    intro cc ss hcc hss hp x2 H locs ls hE hW hl hk
    unfold w_X0_becomes_L32 at hE
    refine e_iload_n X hl 2 rfl dX0_becomes_32 rfl ?_
    refine e_aloadR_n X hl 1 rfl dX0_becomes_33 rfl ?_
    refine h_nn0 hE (fun b13 hE => ?_)
    refine h_getNI X hW ck_X6 (k := 3) hE (by decide) q1445 (fun _ h => h) dX0_becomes_34 (fun v14 hE => ?_)
    refine h_icmp_ge X (w32 x2) (w32 v14) rfl rfl hE dX0_becomes_37 rfl (fun hE => ?_) (fun hE => ?_)
    · refine W.widen (k := 50) (n := 200) (by omega) (by omega) ?_
      exact hk hp x2 _ _ _ hW (lv_sub hl [0, 1, 2] rfl) hE
    · refine e_aload_n X hl 0 rfl dX0_becomes_40 rfl ?_
      refine h_getR X hW ck_X0 (k := 2) hE (by decide) q1226 (fun _ h => h) dX0_becomes_41 (fun r15 hE => ?_)
      refine e_aloadR_n X hl 1 rfl dX0_becomes_44 rfl ?_
      refine h_nn0 hE (fun b16 hE => ?_)
      refine h_getNR X hW ck_X6 (k := 1) hE (by decide) q1443 (fun _ h => h) dX0_becomes_45 (fun r17 hE => ?_)
      refine e_iload_n X hl 2 rfl dX0_becomes_48 rfl ?_
      refine h_nn1 hE (fun b18 hE => ?_)
      refine h_aald X hW (fun _ => rfl) hE dX0_becomes_49 (fun r19 hE => ?_)
      refine h_nn0 hE (fun b20 hE => ?_)
      obtain ⟨⟨fs, he⟩, hE⟩ := hE
      refine h_callVR (rest := [va_rf r15]) (As := []) X hW he ck_X7 (mh_X7_copy l G hp b20 _ hE) (cwV 0 X.ht (lw_V q1348 q1349 q1350 q172 q1351) rfl rfl rfl hd_X7_copy (cxH (by decide) (by decide))) rfl hl.1 rfl (by generalize r15 = z0; cases z0 <;> exact Nat.le_of_ble_eq_true rfl) dX0_becomes_50 ⟨(Nat.le_trans (show cc + 1 ≤ 50 by omega) (Nat.le_of_ble_eq_true rfl)), (Nat.le_trans (show ss + 5 ≤ 200 by omega) (Nat.le_of_ble_eq_true rfl))⟩ (cc + 1) (ss + 5) rfl rfl (fun r22 hp21 hE H locs hW => ?_)
      refine h_nn1 hE (fun b23 hE => ?_)
      obtain ⟨⟨fs, he⟩, hE⟩ := hE
      refine h_callVV (rest := []) (As := [va_rf r22]) X hW he ck_J3 (mh_J3_addLast l G hp21 b23 r22 _ hE) (cwV 1 X.ht (lw_V q1383 q1384 q1385 q131 q1386) rfl rfl rfl hd_J3_addLast (cxH (by decide) (by decide))) rfl hl.1 rfl (Nat.le_of_ble_eq_true rfl) dX0_becomes_53 ⟨(Nat.le_trans (show cc + 2 ≤ 50 by omega) (Nat.le_of_ble_eq_true rfl)), (Nat.le_trans (show ss + 8 ≤ 200 by omega) (Nat.le_of_ble_eq_true rfl))⟩ (cc + 2) (ss + 8) rfl rfl (fun hp24 hE H locs hW => ?_)
      refine h_iinc X hl 2 hE (fun v25 => [(2, vI v25), (0, .ref this), (1, va_rf b_1)]) rfl dX0_becomes_56 (by decide) (fun _ => by generalize b_1 = r; cases r <;> rfl) (fun v25 hE ls hl => ?_)
      refine e_goto X dX0_becomes_59 rfl ?_
      refine W.widen (k := cc + 2) (n := ss + 8) (by omega) (by omega) ?_
      exact ih _ _ (by omega) (by omega) hp24 v25 _ _ _ hE hW (lv_sub hl [1, 2, 0] rfl) hk
theorem hwb_X0_becomes {p : Program} {l : Launch} {e : Env} {s : State} {m : MethodId} {args : Array Value} {below : List Frame} {meth : Method} {c : Code} {G : GG} (X : CX p s m args meth c cX0_becomes 3 RX0 none G) {Q : HP → Prop} {hp : HP} {this : Nat} {a1 : Option Nat} (hE : w_X0_becomes G hp this a1 Q) {H : Heap} {locs : List Loc} {ls : Array Slot} (hW : WH G hp H locs) (hl : lv_has ls 3 [(0, .ref this), (1, va_rf a1)]) : W p l e (rmA 4 50 200) s m args below meth c H locs 0 0 (QH below G args s 50 200 (pV Q)) (F0 m 0 ls []) := by
  unfold w_X0_becomes at hE
  refine e_aload_n X hl 0 rfl dX0_becomes_0 rfl ?_
  refine e_aloadR_n X hl 1 rfl dX0_becomes_1 rfl ?_
  refine h_nn0 hE (fun b1 hE => ?_)
  refine h_getNI X hW ck_X6 (k := 2) hE (by decide) q1444 (fun _ h => h) dX0_becomes_2 (fun v2 hE => ?_)
  refine h_put X hW ck_X0 (k := 0) hE (by decide) q1224 (fun _ h => h) rfl rfl (fit_I _) dX0_becomes_5 (fun hp3 hE H locs hW => ?_)
  refine e_aloadR_n X hl 1 rfl dX0_becomes_8 rfl ?_
  refine h_nn0 hE (fun b4 hE => ?_)
  refine h_getNR X hW ck_X6 (k := 0) hE (by decide) q1441 (fun _ h => h) dX0_becomes_9 (fun r5 hE => ?_)
  refine e_iconst X dX0_becomes_12 ?_
  refine e_aload_n X hl 0 rfl dX0_becomes_13 rfl ?_
  refine h_getR X hW ck_X0 (k := 1) hE (by decide) q1225 (fun _ h => h) dX0_becomes_14 (fun r6 hE => ?_)
  refine e_iconst X dX0_becomes_17 ?_
  refine e_bipush X dX0_becomes_18 (by decide) ?_
  refine h_nn2 hE (fun b7 hE => ?_)
  refine h_nn4 hE (fun b8 hE => ?_)
  refine h_copyI X hW hl.1 hE q1343 (dd := 3) rfl (Nat.le_of_ble_eq_true rfl) dX0_becomes_20 (fun hp9 hE H locs hW => ?_)
  refine e_aload_n X hl 0 rfl dX0_becomes_23 rfl ?_
  refine h_getR X hW ck_X0 (k := 2) hE (by decide) q1226 (fun _ h => h) dX0_becomes_24 (fun r10 hE => ?_)
  refine h_nn0 hE (fun b11 hE => ?_)
  obtain ⟨⟨fs, he⟩, hE⟩ := hE
  refine h_callVV (rest := []) (As := []) X hW he ck_J3 (mh_J3_clear l G hp9 b11 _ hE) (cwV 0 X.ht (lw_V q1344 q1345 q1346 q131 q1347) rfl rfl rfl hd_J3_clear (cxH (by decide) (by decide))) rfl hl.1 rfl (Nat.le_of_ble_eq_true rfl) dX0_becomes_27 ⟨(Nat.le_of_ble_eq_true rfl), (Nat.le_of_ble_eq_true rfl)⟩ (0) (0) rfl rfl (fun hp12 hE H locs hW => ?_)
  refine e_iconst X dX0_becomes_30 ?_
  refine e_istore_n X hl [(2, vI 0), (0, .ref this), (1, va_rf a1)] dX0_becomes_31 rfl (by decide) (by generalize a1 = r; cases r <;> rfl) (fun ls hl => ?_)
  refine hwl_X0_becomes_32 X 25 _ _ (Nat.le_of_ble_eq_true rfl) (Nat.le_of_ble_eq_true rfl) hp12 0 _ _ _ hE hW (lv_sub hl [1, 2, 0] rfl) (fun hp26 v27 H locs ls hW hl hE => ?_)
  refine e_aload_n X hl 0 rfl dX0_becomes_62 rfl ?_
  obtain ⟨⟨fs, he⟩, hE⟩ := hE
  refine h_callVV (rest := []) (As := []) X hW he ck_X0 (mh_X0_changes l G hp26 this _ hE) (cwV 0 X.ht (lw_V q1412 q1414 qs15 q127 q1415) rfl rfl rfl hd_X0_changes (cxH (by decide) (by decide))) rfl hl.1 rfl (Nat.le_of_ble_eq_true rfl) dX0_becomes_63 ⟨(Nat.le_of_ble_eq_true rfl), (Nat.le_of_ble_eq_true rfl)⟩ (50) (200) rfl rfl (fun hp28 hE H locs hW => ?_)
  exact h_vret X hW hE (Nat.le_of_ble_eq_true rfl) (Nat.le_of_ble_eq_true rfl) dX0_becomes_66
theorem mh_X0_becomes (l : Launch) (G : GG) (hp : HP) (this : Nat) (a1 : Option Nat) (Q : HP → Prop) (hE : w_X0_becomes G hp this a1 Q) : MH l yX0_becomes (ws_ yX0_becomes cX0_becomes 3 none) 4 50 200 G [.ref this, va_rf a1] hp (pV Q) :=
  MH.of (by decide +kernel) (by cases a1 <;> exact Nat.le_of_ble_eq_true rfl) (lv := [(0, .ref this), (1, va_rf a1)]) (by cases a1 <;> rfl) (fun p e s m below meth c ls X hin hW hl => hwb_X0_becomes X hE hW hl)
def w_X0_back (G : GG) (hp : HP) (this : Nat) (Q : Int → HP → Prop) : Prop :=
  hR hp this 0 8 fun r1 => hNn r1 fun b2 => hIs hp b2 20 (w_J22_isEmpty G hp b2 (fun v4 hp3 => hIf (w32 v4 = 0) (hR hp3 this 0 8 fun r5 => hNn r5 fun b6 => hIs hp3 b6 20 (w_J22_removeLast G hp3 b6 (fun r8 hp7 => hCast hp7 6 r8 (hIs hp7 this 0 (w_X0_becomes G hp7 this r8 (fun hp9 => hR hp9 this 0 8 fun r10 => hNn r10 fun b11 => hIs hp9 b11 20 (w_J22_size G hp9 b11 (fun v13 hp12 => Q v13 hp12)))))))) (Q (-3) hp3)))
theorem hd_X0_back : yX0_back.cls = RX0 ∧ yX0_back.cls ≠ "java/lang/invoke/MethodHandle" ∧ yX0_back.cls ≠ "java/lang/invoke/VarHandle" ∧ (parseMethodDescriptor yX0_back.desc).map (fun d => d.parameters.length) = some 0 := by decide +kernel
theorem hwb_X0_back {p : Program} {l : Launch} {e : Env} {s : State} {m : MethodId} {args : Array Value} {below : List Frame} {meth : Method} {c : Code} {G : GG} (X : CX p s m args meth c cX0_back 1 RX0 (some .int) G) {Q : Int → HP → Prop} {hp : HP} {this : Nat} (hE : w_X0_back G hp this Q) {H : Heap} {locs : List Loc} {ls : Array Slot} (hW : WH G hp H locs) (hl : lv_has ls 1 [(0, .ref this)]) : W p l e (rmA 5 50 200) s m args below meth c H locs 0 0 (QH below G args s 50 200 (pI Q)) (F0 m 0 ls []) := by
  unfold w_X0_back at hE
  refine e_aload_n X hl 0 rfl dX0_back_0 rfl ?_
  refine h_getR X hW ck_X0 (k := 8) hE (by decide) q1233 (fun _ h => h) dX0_back_1 (fun r1 hE => ?_)
  refine h_nn0 hE (fun b2 hE => ?_)
  obtain ⟨⟨fs, he⟩, hE⟩ := hE
  refine h_callVI (rest := []) (As := []) X hW he ck_J22 (mh_J22_isEmpty l G hp b2 _ hE) (cwV 0 X.ht (lw_V q1326 q904 q905 q153 q906) rfl rfl rfl hd_J22_isEmpty (cxH (by decide) (by decide))) rfl hl.1 rfl (Nat.le_of_ble_eq_true rfl) dX0_back_4 ⟨(Nat.le_of_ble_eq_true rfl), (Nat.le_of_ble_eq_true rfl)⟩ (0) (0) rfl rfl (fun v4 hp3 hE H locs hW => ?_)
  refine h_if_eq X (w32 v4) rfl hE dX0_back_7 rfl (fun hE => ?_) (fun hE => ?_)
  · refine e_aload_n X hl 0 rfl dX0_back_13 rfl ?_
    refine e_aload_n X hl 0 rfl dX0_back_14 rfl ?_
    refine h_getR X hW ck_X0 (k := 8) hE (by decide) q1233 (fun _ h => h) dX0_back_15 (fun r5 hE => ?_)
    refine h_nn0 hE (fun b6 hE => ?_)
    obtain ⟨⟨fs, he⟩, hE⟩ := hE
    refine h_callVR (rest := [.ref this]) (As := []) X hW he ck_J22 (mh_J22_removeLast l G hp3 b6 _ hE) (cwV 0 X.ht (lw_V q1327 q1328 q1329 q153 q1330) rfl rfl rfl hd_J22_removeLast (cxH (by decide) (by decide))) rfl hl.1 rfl (Nat.le_of_ble_eq_true rfl) dX0_back_18 ⟨(Nat.le_of_ble_eq_true rfl), (Nat.le_of_ble_eq_true rfl)⟩ (0) (0) rfl rfl (fun r8 hp7 hE H locs hW => ?_)
    refine h_castS X hW ck_X6 (r := r8) hE q1338 dX0_back_21 (fun hE => ?_)
    obtain ⟨⟨fs, he⟩, hE⟩ := hE
    refine h_callVV (rest := []) (As := [va_rf r8]) X hW he ck_X0 (mh_X0_becomes l G hp7 this r8 _ hE) (cwV 1 X.ht (lw_V q1339 q1341 qs14 q127 q1342) rfl rfl rfl hd_X0_becomes (cxH (by decide) (by decide))) rfl hl.1 rfl (Nat.le_of_ble_eq_true rfl) dX0_back_24 ⟨(Nat.le_of_ble_eq_true rfl), (Nat.le_of_ble_eq_true rfl)⟩ (50) (200) rfl rfl (fun hp9 hE H locs hW => ?_)
    refine e_aload_n X hl 0 rfl dX0_back_27 rfl ?_
    refine h_getR X hW ck_X0 (k := 8) hE (by decide) q1233 (fun _ h => h) dX0_back_28 (fun r10 hE => ?_)
    refine h_nn0 hE (fun b11 hE => ?_)
    obtain ⟨⟨fs, he⟩, hE⟩ := hE
    refine h_callVI (rest := []) (As := []) X hW he ck_J22 (mh_J22_size l G hp9 b11 _ hE) (cwV 0 X.ht (lw_V q795 q796 q797 q153 q798) rfl rfl rfl hd_J22_size (cxH (by decide) (by decide))) rfl hl.1 rfl (Nat.le_of_ble_eq_true rfl) dX0_back_31 ⟨(Nat.le_of_ble_eq_true rfl), (Nat.le_of_ble_eq_true rfl)⟩ (50) (200) rfl rfl (fun v13 hp12 hE H locs hW => ?_)
    exact h_zret X hW hE rfl (Nat.le_of_ble_eq_true rfl) (Nat.le_of_ble_eq_true rfl) dX0_back_34
  · refine e_bipush X dX0_back_10 (by decide) ?_
    exact h_zret (x := (-3)) X hW hE rfl (Nat.le_of_ble_eq_true rfl) (Nat.le_of_ble_eq_true rfl) dX0_back_12
theorem mh_X0_back (l : Launch) (G : GG) (hp : HP) (this : Nat) (Q : Int → HP → Prop) (hE : w_X0_back G hp this Q) : MH l yX0_back (ws_ yX0_back cX0_back 1 (some .int)) 5 50 200 G [.ref this] hp (pI Q) :=
  MH.of (by decide +kernel) (Nat.le_of_ble_eq_true rfl) rfl (fun p e s m below meth c ls X hin hW hl => hwb_X0_back X hE hW hl)
def w_X0_shot_L39 (G : GG) (b_1 : Nat) (b_2 : Option Nat) (k : HP → Prop) : Nat → HP → Prop
  | 0, _ => False
  | n + 1, hp =>
    hNn b_2 fun b15 => hIs hp b15 21 (w_J24_hasNext G hp b15 (fun v17 hp16 => hIf (w32 v17 = 0) (k hp16) (hNn b_2 fun b18 => hIs hp16 b18 21 (w_J24_next G hp16 b18 (fun r20 hp19 => hCast hp19 7 r20 (hR hp19 b_1 6 1 fun r21 => hI hp19 b_1 6 3 fun v22 => hPut hp19 b_1 6 3 (vI (v22 + 1)) fun hp23 => hNn r20 fun b24 => hIs hp23 b24 7 (w_X7_copy G hp23 b24 (fun r26 hp25 => hNn r21 fun b27 => hsR G hp25 b27 6 v22 7 r26 fun hp28 => w_X0_shot_L39 G b_1 b_2 k n hp28))))))))
def w_X0_shot (G : GG) (hp : HP) (this : Nat) (Q : Option Nat → HP → Prop) : Prop :=
  hNew hp 6 df_X6 fun hp1 q2 => w_X6_init G hp1 q2 (fun hp3 => hI hp3 this 0 0 fun v4 => hPut hp3 q2 6 2 (vI v4) fun hp5 => hR hp5 this 0 1 fun r6 => hR hp5 q2 6 0 fun r7 => hNn r7 fun b8 => hNn r6 fun b9 => hCpI G hp5 b9 0 b8 0 8 fun hp10 => hR hp10 this 0 2 fun r11 => hNn r11 fun b12 => hIs hp10 b12 12 (w_J2_iterator G hp10 b12 (fun r14 hp13 => w_X0_shot_L39 G q2 r14 (fun (hp29 : HP) => Q (some q2) hp29) 25 hp13)))
theorem hd_X0_shot : yX0_shot.cls = RX0 ∧ yX0_shot.cls ≠ "java/lang/invoke/MethodHandle" ∧ yX0_shot.cls ≠ "java/lang/invoke/VarHandle" ∧ (parseMethodDescriptor yX0_shot.desc).map (fun d => d.parameters.length) = some 0 := by decide +kernel
theorem hwl_X0_shot_39 {p : Program} {l : Launch} {e : Env} {s : State} {m : MethodId} {args : Array Value} {below : List Frame} {meth : Method} {c : Code} {G : GG} (X : CX p s m args meth c cX0_shot 4 RX0 (some (.object "FreightRoads$Shot")) G) {Q : Option Nat → HP → Prop} {b_1 : Nat} {b_2 : Option Nat} {k : HP → Prop} : ∀ (n : Nat) (cc ss : Nat) (hcc : cc + n * 1 ≤ 29) (hss : ss + n * 5 ≤ 166) (hp : HP) (H : Heap) (locs : List Loc) (ls : Array Slot) (hE : w_X0_shot_L39 G b_1 b_2 k n hp) (hW : WH G hp H locs) (hl : lv_has ls 4 [(1, .ref b_1), (2, va_rf b_2)]) (hk : ∀ (hp : HP) (H : Heap) (locs : List Loc) (ls : Array Slot), WH G hp H locs → lv_has ls 4 [(1, .ref b_1), (2, va_rf b_2)] → k hp → W p l e (rmA 5 29 166) s m args below meth c H locs (29) (166) (QH below G args s 29 166 (pR Q)) (F0 m 81 ls [])), W p l e (rmA 5 29 166) s m args below meth c H locs (cc) (ss) (QH below G args s 29 166 (pR Q)) (F0 m 39 ls []) := by
  intro n
  induction n with
  | zero =>
    intro cc ss hcc hss hp H locs ls hE hW hl hk
    unfold w_X0_shot_L39 at hE
    exact hE.elim
  | succ n ih =>
    intro cc ss hcc hss hp H locs ls hE hW hl hk
    unfold w_X0_shot_L39 at hE
    refine e_aloadR_n X hl 1 rfl dX0_shot_39 rfl ?_
    refine h_nn0 hE (fun b15 hE => ?_)
    obtain ⟨⟨fs, he⟩, hE⟩ := hE
    refine h_callFI (rest := []) (As := []) X hW he ck_J24 (mh_J24_hasNext l G hp b15 _ hE) (cwH_F X 0 q866 q892 q894 q158 q896 (by decide +kernel) (by decide +kernel) (by decide) (by decide)) rfl hl.1 rfl (Nat.le_of_ble_eq_true rfl) dX0_shot_40 ⟨(Nat.le_trans (show cc ≤ 29 by omega) (Nat.le_of_ble_eq_true rfl)), (Nat.le_trans (show ss ≤ 166 by omega) (Nat.le_of_ble_eq_true rfl))⟩ (cc) (ss) rfl rfl (fun v17 hp16 hE H locs hW => ?_)
    refine h_if_eq X (w32 v17) rfl hE dX0_shot_45 rfl (fun hE => ?_) (fun hE => ?_)
    · refine W.widen (k := 29) (n := 166) (by omega) (by omega) ?_
      exact hk hp16 _ _ _ hW (lv_sub hl [0, 1] rfl) hE
    · refine e_aloadR_n X hl 1 rfl dX0_shot_48 rfl ?_
      refine h_nn0 hE (fun b18 hE => ?_)
      obtain ⟨⟨fs, he⟩, hE⟩ := hE
      refine h_callFR (rest := []) (As := []) X hW he ck_J24 (mh_J24_next l G hp16 b18 _ hE) (cwH_F X 0 q917 q1103 q1105 q158 q1107 (by decide +kernel) (by decide +kernel) (by decide) (by decide)) rfl hl.1 rfl (Nat.le_of_ble_eq_true rfl) dX0_shot_49 ⟨(Nat.le_trans (show cc ≤ 29 by omega) (Nat.le_of_ble_eq_true rfl)), (Nat.le_trans (show ss ≤ 166 by omega) (Nat.le_of_ble_eq_true rfl))⟩ (cc) (ss) rfl rfl (fun r20 hp19 hE H locs hW => ?_)
      refine h_castS X hW ck_X7 (r := r20) hE q1152 dX0_shot_54 (fun hE => ?_)
      refine e_astoreR_n X hl [(3, va_rf r20), (1, .ref b_1), (2, va_rf b_2)] dX0_shot_57 rfl (by decide) (by generalize b_2 = r; cases r <;> rfl) (fun ls hl => ?_)
      refine e_aload_n X hl 1 rfl dX0_shot_58 rfl ?_
      refine h_getNR X hW ck_X6 (k := 1) hE (by decide) q1443 (fun _ h => h) dX0_shot_59 (fun r21 hE => ?_)
      refine e_aload_n X hl 1 rfl dX0_shot_62 rfl ?_
      refine e_dup X dX0_shot_63 rfl ?_
      refine h_getNI X hW ck_X6 (k := 3) hE (by decide) q1445 (fun _ h => h) dX0_shot_64 (fun v22 hE => ?_)
      refine e_dup_x1 X dX0_shot_67 rfl rfl ?_
      refine e_iconst X dX0_shot_68 ?_
      refine e_iadd X dX0_shot_69 ?_
      refine h_putN X hW ck_X6 (k := 3) hE (by decide) q1445 (fun _ h => h) rfl rfl (fit_I _) dX0_shot_70 (fun hp23 hE H locs hW => ?_)
      refine e_aloadR_n X hl 0 rfl dX0_shot_73 rfl ?_
      refine h_nn0 hE (fun b24 hE => ?_)
      obtain ⟨⟨fs, he⟩, hE⟩ := hE
      refine h_callVR (rest := [vI v22, va_rf r21]) (As := []) X hW he ck_X7 (mh_X7_copy l G hp23 b24 _ hE) (cwV 0 X.ht (lw_V q1348 q1349 q1350 q172 q1351) rfl rfl rfl hd_X7_copy (cxH (by decide) (by decide))) rfl hl.1 rfl (by generalize r21 = z0; cases z0 <;> exact Nat.le_of_ble_eq_true rfl) dX0_shot_74 ⟨(Nat.le_trans (show cc + 1 ≤ 29 by omega) (Nat.le_of_ble_eq_true rfl)), (Nat.le_trans (show ss + 5 ≤ 166 by omega) (Nat.le_of_ble_eq_true rfl))⟩ (cc + 1) (ss + 5) rfl rfl (fun r26 hp25 hE H locs hW => ?_)
      refine h_nn2 hE (fun b27 hE => ?_)
      refine h_aastS X hW (fun _ => rfl) ck_X7 (r := r26) hE dX0_shot_77 (fun hp28 hE H locs hW => ?_)
      refine e_goto X dX0_shot_78 rfl ?_
      refine W.widen (k := cc + 1) (n := ss + 5) (by omega) (by omega) ?_
      exact ih _ _ (by omega) (by omega) hp28 _ _ _ hE hW (lv_sub hl [1, 2] rfl) hk
theorem hwb_X0_shot {p : Program} {l : Launch} {e : Env} {s : State} {m : MethodId} {args : Array Value} {below : List Frame} {meth : Method} {c : Code} {G : GG} (X : CX p s m args meth c cX0_shot 4 RX0 (some (.object "FreightRoads$Shot")) G) {Q : Option Nat → HP → Prop} {hp : HP} {this : Nat} (hE : w_X0_shot G hp this Q) {H : Heap} {locs : List Loc} {ls : Array Slot} (hW : WH G hp H locs) (hl : lv_has ls 4 [(0, .ref this)]) : W p l e (rmA 5 29 166) s m args below meth c H locs 0 0 (QH below G args s 29 166 (pR Q)) (F0 m 0 ls []) := by
  unfold w_X0_shot at hE
  refine h_new X hW ck_X6 hE q1338 q1433 q171 dflt_X6 (Nat.le_of_ble_eq_true rfl) (Nat.le_of_ble_eq_true rfl) (1) (4) rfl rfl dX0_shot_0 (fun hp1 q2 hE H locs hW => ?_)
  refine e_dup X dX0_shot_3 rfl ?_
  refine h_callIN (rest := [.ref q2]) (As := []) X hW (mh_X6_init l G hp1 q2 _ hE) q1434 rfl q1435 q171 q1436 hd_X6_init (by decide) (by decide) rfl hl.1 rfl (Nat.le_of_ble_eq_true rfl) dX0_shot_4 ⟨(Nat.le_of_ble_eq_true rfl), (Nat.le_of_ble_eq_true rfl)⟩ (3) (36) rfl rfl (fun hp3 hE H locs hW => ?_)
  refine e_astore_n X hl [(1, .ref q2), (0, .ref this)] dX0_shot_7 rfl (by decide) rfl (fun ls hl => ?_)
  refine e_aload_n X hl 0 rfl dX0_shot_8 rfl ?_
  refine e_aload_n X hl 1 rfl dX0_shot_9 rfl ?_
  refine h_getI X hW ck_X0 (k := 0) hE (by decide) q1224 (fun _ h => h) dX0_shot_10 (fun v4 hE => ?_)
  refine h_putN X hW ck_X6 (k := 2) hE (by decide) q1444 (fun _ h => h) rfl rfl (fit_I _) dX0_shot_13 (fun hp5 hE H locs hW => ?_)
  refine e_aload_n X hl 1 rfl dX0_shot_16 rfl ?_
  refine h_getR X hW ck_X0 (k := 1) hE (by decide) q1225 (fun _ h => h) dX0_shot_17 (fun r6 hE => ?_)
  refine e_iconst X dX0_shot_20 ?_
  refine e_aload_n X hl 0 rfl dX0_shot_21 rfl ?_
  refine h_getNR X hW ck_X6 (k := 0) hE (by decide) q1441 (fun _ h => h) dX0_shot_22 (fun r7 hE => ?_)
  refine e_iconst X dX0_shot_25 ?_
  refine e_bipush X dX0_shot_26 (by decide) ?_
  refine h_nn2 hE (fun b8 hE => ?_)
  refine h_nn4 hE (fun b9 hE => ?_)
  refine h_copyI X hW hl.1 hE q1343 (dd := 4) rfl (Nat.le_of_ble_eq_true rfl) dX0_shot_28 (fun hp10 hE H locs hW => ?_)
  refine e_aload_n X hl 1 rfl dX0_shot_31 rfl ?_
  refine h_getR X hW ck_X0 (k := 2) hE (by decide) q1226 (fun _ h => h) dX0_shot_32 (fun r11 hE => ?_)
  refine h_nn0 hE (fun b12 hE => ?_)
  obtain ⟨⟨fs, he⟩, hE⟩ := hE
  refine h_callUR (rest := []) (As := []) X hW he ck_J3 (mh_J2_iterator l G hp10 b12 _ hE) (cwH_U X 0 q812 q813 q815 q816 q130 q817 q814 (by decide +kernel) (by decide) (by decide)) rfl hl.1 rfl (Nat.le_of_ble_eq_true rfl) dX0_shot_35 ⟨(Nat.le_of_ble_eq_true rfl), (Nat.le_of_ble_eq_true rfl)⟩ (4) (41) rfl rfl (fun r14 hp13 hE H locs hW => ?_)
  refine e_astoreR_n X hl [(2, va_rf r14), (1, .ref q2), (0, .ref this)] dX0_shot_38 rfl (by decide) rfl (fun ls hl => ?_)
  refine hwl_X0_shot_39 X 25 _ _ (Nat.le_of_ble_eq_true rfl) (Nat.le_of_ble_eq_true rfl) hp13 _ _ _ hE hW (lv_sub hl [1, 0] rfl) (fun hp29 H locs ls hW hl hE => ?_)
  refine e_aload_n X hl 0 rfl dX0_shot_81 rfl ?_
  exact h_rret (r := some q2) X hW (Or.inl ⟨_, rfl⟩) hE (Nat.le_of_ble_eq_true rfl) (Nat.le_of_ble_eq_true rfl) dX0_shot_82
theorem mh_X0_shot (l : Launch) (G : GG) (hp : HP) (this : Nat) (Q : Option Nat → HP → Prop) (hE : w_X0_shot G hp this Q) : MH l yX0_shot (ws_ yX0_shot cX0_shot 4 (some (.object "FreightRoads$Shot"))) 5 29 166 G [.ref this] hp (pR Q) :=
  MH.of (by decide +kernel) (Nat.le_of_ble_eq_true rfl) rfl (fun p e s m below meth c ls X hin hW hl => hwb_X0_shot X hE hW hl)
def w_X0_steps (G : GG) (hp : HP) (this : Nat) (Q : HP → Prop) : Prop :=
  hR hp this 0 8 fun r1 => hIs hp this 0 (w_X0_shot G hp this (fun r3 hp2 => hNn r1 fun b4 => hIs hp2 b4 20 (w_J22_addLast G hp2 b4 r3 (fun hp5 => hR hp5 this 0 8 fun r6 => hNn r6 fun b7 => hIs hp5 b7 20 (w_J22_size G hp5 b7 (fun v9 hp8 => hJn (fun (hp11 : HP) => hIs hp11 this 0 (w_X0_changes G hp11 this (fun hp12 => Q hp12))) fun kj10 => hIf (w32 v9 ≤ 12) (kj10 hp8) (hR hp8 this 0 8 fun r13 => hNn r13 fun b14 => hIs hp8 b14 20 (w_J22_removeFirst G hp8 b14 (fun r16 hp15 => kj10 hp15)))))))))
theorem hd_X0_steps : yX0_steps.cls = RX0 ∧ yX0_steps.cls ≠ "java/lang/invoke/MethodHandle" ∧ yX0_steps.cls ≠ "java/lang/invoke/VarHandle" ∧ (parseMethodDescriptor yX0_steps.desc).map (fun d => d.parameters.length) = some 0 := by decide +kernel
theorem hwb_X0_steps {p : Program} {l : Launch} {e : Env} {s : State} {m : MethodId} {args : Array Value} {below : List Frame} {meth : Method} {c : Code} {G : GG} (X : CX p s m args meth c cX0_steps 1 RX0 none G) {Q : HP → Prop} {hp : HP} {this : Nat} (hE : w_X0_steps G hp this Q) {H : Heap} {locs : List Loc} {ls : Array Slot} (hW : WH G hp H locs) (hl : lv_has ls 1 [(0, .ref this)]) : W p l e (rmA 6 29 166) s m args below meth c H locs 0 0 (QH below G args s 29 166 (pV Q)) (F0 m 0 ls []) := by
  unfold w_X0_steps at hE
  refine e_aload_n X hl 0 rfl dX0_steps_0 rfl ?_
  refine h_getR X hW ck_X0 (k := 8) hE (by decide) q1233 (fun _ h => h) dX0_steps_1 (fun r1 hE => ?_)
  refine e_aload_n X hl 0 rfl dX0_steps_4 rfl ?_
  obtain ⟨⟨fs, he⟩, hE⟩ := hE
  refine h_callVR (rest := [va_rf r1]) (As := []) X hW he ck_X0 (mh_X0_shot l G hp this _ hE) (cwV 0 X.ht (lw_V q1429 q1431 qs17 q127 q1432) rfl rfl rfl hd_X0_shot (cxH (by decide) (by decide))) rfl hl.1 rfl (by generalize r1 = z0; cases z0 <;> exact Nat.le_of_ble_eq_true rfl) dX0_steps_5 ⟨(Nat.le_of_ble_eq_true rfl), (Nat.le_of_ble_eq_true rfl)⟩ (29) (166) rfl rfl (fun r3 hp2 hE H locs hW => ?_)
  refine h_nn1 hE (fun b4 hE => ?_)
  obtain ⟨⟨fs, he⟩, hE⟩ := hE
  refine h_callVV (rest := []) (As := [va_rf r3]) X hW he ck_J22 (mh_J22_addLast l G hp2 b4 r3 _ hE) (cwV 1 X.ht (lw_V q1455 q1456 q1457 q153 q1458) rfl rfl rfl hd_J22_addLast (cxH (by decide) (by decide))) rfl hl.1 rfl (Nat.le_of_ble_eq_true rfl) dX0_steps_8 ⟨(Nat.le_of_ble_eq_true rfl), (Nat.le_of_ble_eq_true rfl)⟩ (29) (166) rfl rfl (fun hp5 hE H locs hW => ?_)
  refine e_aload_n X hl 0 rfl dX0_steps_11 rfl ?_
  refine h_getR X hW ck_X0 (k := 8) hE (by decide) q1233 (fun _ h => h) dX0_steps_12 (fun r6 hE => ?_)
  refine h_nn0 hE (fun b7 hE => ?_)
  obtain ⟨⟨fs, he⟩, hE⟩ := hE
  refine h_callVI (rest := []) (As := []) X hW he ck_J22 (mh_J22_size l G hp5 b7 _ hE) (cwV 0 X.ht (lw_V q795 q796 q797 q153 q798) rfl rfl rfl hd_J22_size (cxH (by decide) (by decide))) rfl hl.1 rfl (Nat.le_of_ble_eq_true rfl) dX0_steps_15 ⟨(Nat.le_of_ble_eq_true rfl), (Nat.le_of_ble_eq_true rfl)⟩ (29) (166) rfl rfl (fun v9 hp8 hE H locs hW => ?_)
  refine e_bipush X dX0_steps_18 (by decide) ?_
  obtain ⟨kj10, hkj10, hE⟩ := h_jn hE
  have hjkj10 : ∀ (hp11 : HP) (H : Heap) (locs : List Loc) (ls : Array Slot), WH G hp11 H locs → lv_has ls 1 [(0, .ref this)] → kj10 hp11 → W p l e (rmA 6 29 166) s m args below meth c H locs (29) (166) (QH below G args s 29 166 (pV Q)) (F0 m 31 ls []) := by
    intro hp11 H locs ls hW hl hE
    subst hkj10
    refine e_aload_n X hl 0 rfl dX0_steps_31 rfl ?_
    obtain ⟨⟨fs, he⟩, hE⟩ := hE
    refine h_callVV (rest := []) (As := []) X hW he ck_X0 (mh_X0_changes l G hp11 this _ hE) (cwV 0 X.ht (lw_V q1412 q1414 qs15 q127 q1415) rfl rfl rfl hd_X0_changes (cxH (by decide) (by decide))) rfl hl.1 rfl (Nat.le_of_ble_eq_true rfl) dX0_steps_32 ⟨(Nat.le_of_ble_eq_true rfl), (Nat.le_of_ble_eq_true rfl)⟩ (29) (166) rfl rfl (fun hp12 hE H locs hW => ?_)
    exact h_vret X hW hE (Nat.le_of_ble_eq_true rfl) (Nat.le_of_ble_eq_true rfl) dX0_steps_35
  refine h_icmp_le X (w32 v9) 12 rfl (by decide) hE dX0_steps_20 rfl (fun hE => ?_) (fun hE => ?_)
  · exact hjkj10 hp8 _ _ _ hW (lv_sub hl [0] rfl) hE
  · refine e_aload_n X hl 0 rfl dX0_steps_23 rfl ?_
    refine h_getR X hW ck_X0 (k := 8) hE (by decide) q1233 (fun _ h => h) dX0_steps_24 (fun r13 hE => ?_)
    refine h_nn0 hE (fun b14 hE => ?_)
    obtain ⟨⟨fs, he⟩, hE⟩ := hE
    refine h_callVR (rest := []) (As := []) X hW he ck_J22 (mh_J22_removeFirst l G hp8 b14 _ hE) (cwV 0 X.ht (lw_V q1480 q1481 q1482 q153 q1483) rfl rfl rfl hd_J22_removeFirst (cxH (by decide) (by decide))) rfl hl.1 rfl (Nat.le_of_ble_eq_true rfl) dX0_steps_27 ⟨(Nat.le_of_ble_eq_true rfl), (Nat.le_of_ble_eq_true rfl)⟩ (29) (166) rfl rfl (fun r16 hp15 hE H locs hW => ?_)
    refine e_pop X dX0_steps_30 (va_rf_cat _) ?_
    exact hjkj10 hp15 _ _ _ hW (lv_sub hl [0] rfl) hE
theorem mh_X0_steps (l : Launch) (G : GG) (hp : HP) (this : Nat) (Q : HP → Prop) (hE : w_X0_steps G hp this Q) : MH l yX0_steps (ws_ yX0_steps cX0_steps 1 none) 6 29 166 G [.ref this] hp (pV Q) :=
  MH.of (by decide +kernel) (Nat.le_of_ble_eq_true rfl) rfl (fun p e s m below meth c ls X hin hW hl => hwb_X0_steps X hE hW hl)
def w_X0_towns_L40 (G : GG) (this : Nat) (b_2 : Int) (k : HP → Int → Prop) : Nat → HP → Int → Prop
  | 0, _, _ => False
  | n + 1, hp, x3 =>
    hIf (8 ≤ w32 x3) (k hp x3) (hR hp this 0 1 fun r9 => hNn r9 fun b10 => hsI G hp b10 0 x3 0 fun hp11 => hJn (x3 + 1) fun v12 => w_X0_towns_L40 G this b_2 k n hp11 v12)
def w_X0_towns (G : GG) (hp : HP) (this : Nat) (a1 : Int) (Q : Int → HP → Prop) : Prop :=
  w_X0_isIn G hp (w32 a1) 2 8 (fun v2 hp1 => hIf (¬ w32 v2 = 0) (hIs hp1 this 0 (w_X0_steps G hp1 this (fun hp3 => hI hp3 this 0 0 fun v4 => hPut hp3 this 0 0 (vI a1) fun hp5 => hR hp5 this 0 2 fun r6 => hNn r6 fun b7 => hIs hp5 b7 12 (w_J3_clear G hp5 b7 (fun hp8 => ∃ n : Nat, w_X0_towns_L40 G this v4 (fun (hp13 : HP) (v14 : Int) => Q v4 hp13) n hp8 0))))) (Q (-2) hp1))
theorem hd_X0_towns : yX0_towns.cls = RX0 ∧ yX0_towns.cls ≠ "java/lang/invoke/MethodHandle" ∧ yX0_towns.cls ≠ "java/lang/invoke/VarHandle" ∧ (parseMethodDescriptor yX0_towns.desc).map (fun d => d.parameters.length) = some 1 := by decide +kernel
theorem hwl_X0_towns_40 {p : Program} {l : Launch} {e : Env} {s : State} {m : MethodId} {args : Array Value} {below : List Frame} {meth : Method} {c : Code} {G : GG} (X : CX p s m args meth c cX0_towns 4 RX0 (some .int) G) {Q : Int → HP → Prop} {this : Nat} {b_2 : Int} {k : HP → Int → Prop} : ∀ (n : Nat) (hp : HP) (x3 : Int) (H : Heap) (locs : List Loc) (ls : Array Slot) (hE : w_X0_towns_L40 G this b_2 k n hp x3) (hW : WH G hp H locs) (hl : lv_has ls 4 [(0, .ref this), (2, vI b_2), (3, vI x3)]) (hk : ∀ (hp : HP) (x3 : Int) (H : Heap) (locs : List Loc) (ls : Array Slot), WH G hp H locs → lv_has ls 4 [(0, .ref this), (2, vI b_2), (3, vI x3)] → k hp x3 → W p l e (rmA 7 29 166) s m args below meth c H locs (29) (166) (QH below G args s 29 166 (pI Q)) (F0 m 59 ls [])), W p l e (rmA 7 29 166) s m args below meth c H locs (29) (166) (QH below G args s 29 166 (pI Q)) (F0 m 40 ls []) := by
  intro n
  induction n with
  | zero =>
    intro hp x3 H locs ls hE hW hl hk
    unfold w_X0_towns_L40 at hE
    exact hE.elim
  | succ n ih =>
    intro hp x3 H locs ls hE hW hl hk
    unfold w_X0_towns_L40 at hE
    refine e_iload_n X hl 2 rfl dX0_towns_40 rfl ?_
    refine e_bipush X dX0_towns_41 (by decide) ?_
    refine h_icmp_ge X (w32 x3) 8 rfl (by decide) hE dX0_towns_43 rfl (fun hE => ?_) (fun hE => ?_)
    · exact hk hp x3 _ _ _ hW (lv_sub hl [0, 1, 2] rfl) hE
    · refine e_aload_n X hl 0 rfl dX0_towns_46 rfl ?_
      refine h_getR X hW ck_X0 (k := 1) hE (by decide) q1225 (fun _ h => h) dX0_towns_47 (fun r9 hE => ?_)
      refine e_iload_n X hl 2 rfl dX0_towns_50 rfl ?_
      refine e_iconst X dX0_towns_51 ?_
      refine h_nn2 hE (fun b10 hE => ?_)
      refine h_iast X hW hE dX0_towns_52 (fun hp11 hE H locs hW => ?_)
      refine h_iinc X hl 2 hE (fun v12 => [(3, vI v12), (0, .ref this), (2, vI b_2)]) rfl dX0_towns_53 (by decide) (fun _ => rfl) (fun v12 hE ls hl => ?_)
      refine e_goto X dX0_towns_56 rfl ?_
      exact ih hp11 v12 _ _ _ hE hW (lv_sub hl [1, 2, 0] rfl) hk
theorem hwb_X0_towns {p : Program} {l : Launch} {e : Env} {s : State} {m : MethodId} {args : Array Value} {below : List Frame} {meth : Method} {c : Code} {G : GG} (X : CX p s m args meth c cX0_towns 4 RX0 (some .int) G) {Q : Int → HP → Prop} {hp : HP} {this : Nat} {a1 : Int} (hE : w_X0_towns G hp this a1 Q) {H : Heap} {locs : List Loc} {ls : Array Slot} (hW : WH G hp H locs) (hl : lv_has ls 4 [(0, .ref this), (1, vI a1)]) : W p l e (rmA 7 29 166) s m args below meth c H locs 0 0 (QH below G args s 29 166 (pI Q)) (F0 m 0 ls []) := by
  unfold w_X0_towns at hE
  refine e_iload_n X hl 1 rfl dX0_towns_0 rfl ?_
  refine e_i2l X dX0_towns_1 ?_
  refine e_ldc2 X 2 q1420 (by decide) dX0_towns_2 ?_
  refine e_ldc2 X 8 q1421 (by decide) dX0_towns_5 ?_
  refine h_callSI (rest := []) (As := [vL (w32 a1), vL 2, vL 8]) X hW (mh_X0_isIn l G hp (w32 a1) 2 8 _ hE) (va_cwS 3 X.ht (lw_S q1422 q1423 q127 q1424) rfl rfl rfl hd_X0_isIn (cxH (by decide) (by decide))) rfl hl.1 rfl (Nat.le_of_ble_eq_true rfl) dX0_towns_8 ⟨(Nat.le_of_ble_eq_true rfl), (Nat.le_of_ble_eq_true rfl)⟩ (0) (0) rfl rfl (fun v2 hp1 hE H locs hW => ?_)
  refine h_if_ne X (w32 v2) rfl hE dX0_towns_11 rfl (fun hE => ?_) (fun hE => ?_)
  · refine e_aload_n X hl 0 rfl dX0_towns_17 rfl ?_
    obtain ⟨⟨fs, he⟩, hE⟩ := hE
    refine h_callVV (rest := []) (As := []) X hW he ck_X0 (mh_X0_steps l G hp1 this _ hE) (cwV 0 X.ht (lw_V q1425 q1427 qs16 q127 q1428) rfl rfl rfl hd_X0_steps (cxH (by decide) (by decide))) rfl hl.1 rfl (Nat.le_of_ble_eq_true rfl) dX0_towns_18 ⟨(Nat.le_of_ble_eq_true rfl), (Nat.le_of_ble_eq_true rfl)⟩ (29) (166) rfl rfl (fun hp3 hE H locs hW => ?_)
    refine e_aload_n X hl 0 rfl dX0_towns_21 rfl ?_
    refine h_getI X hW ck_X0 (k := 0) hE (by decide) q1224 (fun _ h => h) dX0_towns_22 (fun v4 hE => ?_)
    refine e_istore_n X hl [(2, vI v4), (0, .ref this), (1, vI a1)] dX0_towns_25 rfl (by decide) rfl (fun ls hl => ?_)
    refine e_aload_n X hl 1 rfl dX0_towns_26 rfl ?_
    refine e_iload_n X hl 2 rfl dX0_towns_27 rfl ?_
    refine h_put X hW ck_X0 (k := 0) hE (by decide) q1224 (fun _ h => h) rfl rfl (fit_I _) dX0_towns_28 (fun hp5 hE H locs hW => ?_)
    refine e_aload_n X hl 1 rfl dX0_towns_31 rfl ?_
    refine h_getR X hW ck_X0 (k := 2) hE (by decide) q1226 (fun _ h => h) dX0_towns_32 (fun r6 hE => ?_)
    refine h_nn0 hE (fun b7 hE => ?_)
    obtain ⟨⟨fs, he⟩, hE⟩ := hE
    refine h_callVV (rest := []) (As := []) X hW he ck_J3 (mh_J3_clear l G hp5 b7 _ hE) (cwV 0 X.ht (lw_V q1344 q1345 q1346 q131 q1347) rfl rfl rfl hd_J3_clear (cxH (by decide) (by decide))) rfl hl.1 rfl (Nat.le_of_ble_eq_true rfl) dX0_towns_35 ⟨(Nat.le_of_ble_eq_true rfl), (Nat.le_of_ble_eq_true rfl)⟩ (29) (166) rfl rfl (fun hp8 hE H locs hW => ?_)
    refine e_iconst X dX0_towns_38 ?_
    refine e_istore_n X hl [(3, vI 0), (2, vI v4), (0, .ref this), (1, vI a1)] dX0_towns_39 rfl (by decide) rfl (fun ls hl => ?_)
    obtain ⟨n, hE⟩ := hE
    refine hwl_X0_towns_40 X n hp8 0 _ _ _ hE hW (lv_sub hl [2, 1, 0] rfl) (fun hp13 v14 H locs ls hW hl hE => ?_)
    refine e_iload_n X hl 1 rfl dX0_towns_59 rfl ?_
    exact h_zret X hW hE rfl (Nat.le_of_ble_eq_true rfl) (Nat.le_of_ble_eq_true rfl) dX0_towns_60
  · refine e_bipush X dX0_towns_14 (by decide) ?_
    exact h_zret (x := (-2)) X hW hE rfl (Nat.le_of_ble_eq_true rfl) (Nat.le_of_ble_eq_true rfl) dX0_towns_16
theorem mh_X0_towns (l : Launch) (G : GG) (hp : HP) (this : Nat) (a1 : Int) (Q : Int → HP → Prop) (hE : w_X0_towns G hp this a1 Q) : MH l yX0_towns (ws_ yX0_towns cX0_towns 4 (some .int)) 7 29 166 G [.ref this, vI a1] hp (pI Q) :=
  MH.of (by decide +kernel) (Nat.le_of_ble_eq_true rfl) rfl (fun p e s m below meth c ls X hin hW hl => hwb_X0_towns X hE hW hl)
def w_X0_isTown (G : GG) (hp : HP) (this : Nat) (a1 : Int) (Q : Int → HP → Prop) : Prop :=
  hI hp this 0 0 fun v1 => w_X0_isIn G hp (w32 a1) 0 (w32 (v1 - 1)) (fun v3 hp2 => hZ v3 (Q v3 hp2))
theorem hwb_X0_isTown {p : Program} {l : Launch} {e : Env} {s : State} {m : MethodId} {args : Array Value} {below : List Frame} {meth : Method} {c : Code} {G : GG} (X : CX p s m args meth c cX0_isTown 2 RX0 (some .boolean) G) {Q : Int → HP → Prop} {hp : HP} {this : Nat} {a1 : Int} (hE : w_X0_isTown G hp this a1 Q) {H : Heap} {locs : List Loc} {ls : Array Slot} (hW : WH G hp H locs) (hl : lv_has ls 2 [(0, .ref this), (1, vI a1)]) : W p l e (rmA 1 0 0) s m args below meth c H locs 0 0 (QH below G args s 0 0 (pI Q)) (F0 m 0 ls []) := by
  unfold w_X0_isTown at hE
  refine e_iload_n X hl 1 rfl dX0_isTown_0 rfl ?_
  refine e_i2l X dX0_isTown_1 ?_
  refine e_lconst X 0 dX0_isTown_2 (by decide) ?_
  refine e_aload_n X hl 0 rfl dX0_isTown_3 rfl ?_
  refine h_getI X hW ck_X0 (k := 0) hE (by decide) q1224 (fun _ h => h) dX0_isTown_4 (fun v1 hE => ?_)
  refine e_iconst X dX0_isTown_7 ?_
  refine e_isub X dX0_isTown_8 ?_
  refine e_i2l X dX0_isTown_9 ?_
  refine h_callSI (rest := []) (As := [vL (w32 a1), vL 0, vL (w32 (v1 - 1))]) X hW (mh_X0_isIn l G hp (w32 a1) 0 (w32 (v1 - 1)) _ hE) (va_cwS 3 X.ht (lw_S q1422 q1423 q127 q1424) rfl rfl rfl hd_X0_isIn (cxH (by decide) (by decide))) rfl hl.1 rfl (Nat.le_of_ble_eq_true rfl) dX0_isTown_10 ⟨(Nat.le_of_ble_eq_true rfl), (Nat.le_of_ble_eq_true rfl)⟩ (0) (0) rfl rfl (fun v3 hp2 hE H locs hW => ?_)
  obtain ⟨hn, hE⟩ := h_tz hE
  exact h_zret X hW hE hn (Nat.le_of_ble_eq_true rfl) (Nat.le_of_ble_eq_true rfl) dX0_isTown_13
theorem mh_X0_isTown (l : Launch) (G : GG) (hp : HP) (this : Nat) (a1 : Int) (Q : Int → HP → Prop) (hE : w_X0_isTown G hp this a1 Q) : MH l yX0_isTown (ws_ yX0_isTown cX0_isTown 2 (some .boolean)) 1 0 0 G [.ref this, vI a1] hp (pI Q) :=
  MH.of (by decide +kernel) (Nat.le_of_ble_eq_true rfl) rfl (fun p e s m below meth c ls X hin hW hl => hwb_X0_isTown X hE hW hl)
def w_X0_areTowns (G : GG) (hp : HP) (this : Nat) (a1 : Int) (a2 : Int) (Q : Int → HP → Prop) : Prop :=
  hIs hp this 0 (w_X0_isTown G hp this a1 (fun v2 hp1 => hIf (w32 v2 = 0) (Q 0 hp1) (hIs hp1 this 0 (w_X0_isTown G hp1 this a2 (fun v4 hp3 => hIf (w32 v4 = 0) (Q 0 hp3) (hIf (w32 a1 = w32 a2) (Q 0 hp3) (Q 1 hp3)))))))
theorem hwb_X0_areTowns {p : Program} {l : Launch} {e : Env} {s : State} {m : MethodId} {args : Array Value} {below : List Frame} {meth : Method} {c : Code} {G : GG} (X : CX p s m args meth c cX0_areTowns 3 RX0 (some .boolean) G) {Q : Int → HP → Prop} {hp : HP} {this : Nat} {a1 : Int} {a2 : Int} (hE : w_X0_areTowns G hp this a1 a2 Q) {H : Heap} {locs : List Loc} {ls : Array Slot} (hW : WH G hp H locs) (hl : lv_has ls 3 [(0, .ref this), (1, vI a1), (2, vI a2)]) : W p l e (rmA 2 0 0) s m args below meth c H locs 0 0 (QH below G args s 0 0 (pI Q)) (F0 m 0 ls []) := by
  unfold w_X0_areTowns at hE
  refine e_aload_n X hl 0 rfl dX0_areTowns_0 rfl ?_
  refine e_iload_n X hl 1 rfl dX0_areTowns_1 rfl ?_
  obtain ⟨⟨fs, he⟩, hE⟩ := hE
  refine h_callVI (rest := []) (As := [vI a1]) X hW he ck_X0 (mh_X0_isTown l G hp this a1 _ hE) (cwV 1 X.ht (lw_V q1488 q1490 qs20 q127 q1491) rfl rfl rfl hd_X0_isTown (cxH (by decide) (by decide))) rfl hl.1 rfl (Nat.le_of_ble_eq_true rfl) dX0_areTowns_2 ⟨(Nat.le_of_ble_eq_true rfl), (Nat.le_of_ble_eq_true rfl)⟩ (0) (0) rfl rfl (fun v2 hp1 hE H locs hW => ?_)
  refine h_if_eq X (w32 v2) rfl hE dX0_areTowns_5 rfl (fun hE => ?_) (fun hE => ?_)
  · refine e_iconst X dX0_areTowns_25 ?_
    exact h_zret (x := 0) X hW hE rfl (Nat.le_of_ble_eq_true rfl) (Nat.le_of_ble_eq_true rfl) dX0_areTowns_26
  · refine e_aload_n X hl 0 rfl dX0_areTowns_8 rfl ?_
    refine e_iload_n X hl 2 rfl dX0_areTowns_9 rfl ?_
    obtain ⟨⟨fs, he⟩, hE⟩ := hE
    refine h_callVI (rest := []) (As := [vI a2]) X hW he ck_X0 (mh_X0_isTown l G hp1 this a2 _ hE) (cwV 1 X.ht (lw_V q1488 q1490 qs20 q127 q1491) rfl rfl rfl hd_X0_isTown (cxH (by decide) (by decide))) rfl hl.1 rfl (Nat.le_of_ble_eq_true rfl) dX0_areTowns_10 ⟨(Nat.le_of_ble_eq_true rfl), (Nat.le_of_ble_eq_true rfl)⟩ (0) (0) rfl rfl (fun v4 hp3 hE H locs hW => ?_)
    refine h_if_eq X (w32 v4) rfl hE dX0_areTowns_13 rfl (fun hE => ?_) (fun hE => ?_)
    · refine e_iconst X dX0_areTowns_25 ?_
      exact h_zret (x := 0) X hW hE rfl (Nat.le_of_ble_eq_true rfl) (Nat.le_of_ble_eq_true rfl) dX0_areTowns_26
    · refine e_iload_n X hl 1 rfl dX0_areTowns_16 rfl ?_
      refine e_iload_n X hl 2 rfl dX0_areTowns_17 rfl ?_
      refine h_icmp_eq X (w32 a1) (w32 a2) rfl rfl hE dX0_areTowns_18 rfl (fun hE => ?_) (fun hE => ?_)
      · refine e_iconst X dX0_areTowns_25 ?_
        exact h_zret (x := 0) X hW hE rfl (Nat.le_of_ble_eq_true rfl) (Nat.le_of_ble_eq_true rfl) dX0_areTowns_26
      · refine e_iconst X dX0_areTowns_21 ?_
        refine e_goto X dX0_areTowns_22 rfl ?_
        exact h_zret (x := 1) X hW hE rfl (Nat.le_of_ble_eq_true rfl) (Nat.le_of_ble_eq_true rfl) dX0_areTowns_26
theorem mh_X0_areTowns (l : Launch) (G : GG) (hp : HP) (this : Nat) (a1 : Int) (a2 : Int) (Q : Int → HP → Prop) (hE : w_X0_areTowns G hp this a1 a2 Q) : MH l yX0_areTowns (ws_ yX0_areTowns cX0_areTowns 3 (some .boolean)) 2 0 0 G [.ref this, vI a1, vI a2] hp (pI Q) :=
  MH.of (by decide +kernel) (Nat.le_of_ble_eq_true rfl) rfl (fun p e s m below meth c ls X hin hW hl => hwb_X0_areTowns X hE hW hl)
def w_X0_road (G : GG) (hp : HP) (this : Nat) (a1 : Int) (a2 : Int) (a3 : Int) (a4 : Int) (a5 : Int) (Q : Int → HP → Prop) : Prop :=
  hIs hp this 0 (w_X0_areTowns G hp this a1 a2 (fun v2 hp1 => hIf (¬ w32 v2 = 0) (w_X7_may G hp1 a3 a4 a5 (fun v4 hp3 => hIf (¬ w32 v4 = 0) (hR hp3 this 0 2 fun r5 => hNn r5 fun b6 => hIs hp3 b6 12 (w_J3_size G hp3 b6 (fun v8 hp7 => hIf (¬ w32 v8 = 24) (hIs hp7 this 0 (w_X0_steps G hp7 this (fun hp9 => hR hp9 this 0 2 fun r10 => hNew hp9 7 df_X7 fun hp11 q12 => w_X7_init G hp11 q12 a1 a2 (fun hp13 => hIs hp13 q12 7 (w_X7_bounded G hp13 q12 a3 a4 a5 (fun r15 hp14 => hNn r10 fun b16 => hIs hp14 b16 12 (w_J3_addLast G hp14 b16 r15 (fun hp17 => hR hp17 this 0 2 fun r18 => hNn r18 fun b19 => hIs hp17 b19 12 (w_J3_size G hp17 b19 (fun v21 hp20 => Q (v21 - 1) hp20)))))))))) (Q (-4) hp7)))) (Q (-2) hp3))) (Q (-1) hp1)))
theorem hd_X0_road : yX0_road.cls = RX0 ∧ yX0_road.cls ≠ "java/lang/invoke/MethodHandle" ∧ yX0_road.cls ≠ "java/lang/invoke/VarHandle" ∧ (parseMethodDescriptor yX0_road.desc).map (fun d => d.parameters.length) = some 5 := by decide +kernel
theorem hwb_X0_road {p : Program} {l : Launch} {e : Env} {s : State} {m : MethodId} {args : Array Value} {below : List Frame} {meth : Method} {c : Code} {G : GG} (X : CX p s m args meth c cX0_road 7 RX0 (some .int) G) {Q : Int → HP → Prop} {hp : HP} {this : Nat} {a1 : Int} {a2 : Int} {a3 : Int} {a4 : Int} {a5 : Int} (hE : w_X0_road G hp this a1 a2 a3 a4 a5 Q) {H : Heap} {locs : List Loc} {ls : Array Slot} (hW : WH G hp H locs) (hl : lv_has ls 7 [(0, .ref this), (1, vI a1), (2, vI a2), (3, vI a3), (4, vI a4), (5, vL a5)]) : W p l e (rmA 7 31 174) s m args below meth c H locs 0 0 (QH below G args s 31 174 (pI Q)) (F0 m 0 ls []) := by
  unfold w_X0_road at hE
  refine e_aload_n X hl 0 rfl dX0_road_0 rfl ?_
  refine e_iload_n X hl 1 rfl dX0_road_1 rfl ?_
  refine e_iload_n X hl 2 rfl dX0_road_2 rfl ?_
  obtain ⟨⟨fs, he⟩, hE⟩ := hE
  refine h_callVI (rest := []) (As := [vI a1, vI a2]) X hW he ck_X0 (mh_X0_areTowns l G hp this a1 a2 _ hE) (cwV 2 X.ht (lw_V q1498 q1500 qs21 q127 q1501) rfl rfl rfl hd_X0_areTowns (cxH (by decide) (by decide))) rfl hl.1 rfl (Nat.le_of_ble_eq_true rfl) dX0_road_3 ⟨(Nat.le_of_ble_eq_true rfl), (Nat.le_of_ble_eq_true rfl)⟩ (0) (0) rfl rfl (fun v2 hp1 hE H locs hW => ?_)
  refine h_if_ne X (w32 v2) rfl hE dX0_road_6 rfl (fun hE => ?_) (fun hE => ?_)
  · refine e_iload_n X hl 3 rfl dX0_road_11 rfl ?_
    refine e_iload X hl 4 rfl dX0_road_12 ?_
    refine e_lload X hl 5 rfl dX0_road_14 ?_
    refine h_callSI (rest := []) (As := [vI a3, vI a4, vL a5]) X hW (mh_X7_may l G hp1 a3 a4 a5 _ hE) (va_cwS 3 X.ht (lw_S q1502 q1503 q172 q1504) rfl rfl rfl hd_X7_may (cxH (by decide) (by decide))) rfl hl.1 rfl (Nat.le_of_ble_eq_true rfl) dX0_road_16 ⟨(Nat.le_of_ble_eq_true rfl), (Nat.le_of_ble_eq_true rfl)⟩ (0) (0) rfl rfl (fun v4 hp3 hE H locs hW => ?_)
    refine h_if_ne X (w32 v4) rfl hE dX0_road_19 rfl (fun hE => ?_) (fun hE => ?_)
    · refine e_aload_n X hl 0 rfl dX0_road_25 rfl ?_
      refine h_getR X hW ck_X0 (k := 2) hE (by decide) q1226 (fun _ h => h) dX0_road_26 (fun r5 hE => ?_)
      refine h_nn0 hE (fun b6 hE => ?_)
      obtain ⟨⟨fs, he⟩, hE⟩ := hE
      refine h_callVI (rest := []) (As := []) X hW he ck_J3 (mh_J3_size l G hp3 b6 _ hE) (cwV 0 X.ht (lw_V q785 q786 q787 q131 q788) rfl rfl rfl hd_J3_size (cxH (by decide) (by decide))) rfl hl.1 rfl (Nat.le_of_ble_eq_true rfl) dX0_road_29 ⟨(Nat.le_of_ble_eq_true rfl), (Nat.le_of_ble_eq_true rfl)⟩ (0) (0) rfl rfl (fun v8 hp7 hE H locs hW => ?_)
      refine e_bipush X dX0_road_32 (by decide) ?_
      refine h_icmp_ne X (w32 v8) 24 rfl (by decide) hE dX0_road_34 rfl (fun hE => ?_) (fun hE => ?_)
      · refine e_aload_n X hl 0 rfl dX0_road_40 rfl ?_
        obtain ⟨⟨fs, he⟩, hE⟩ := hE
        refine h_callVV (rest := []) (As := []) X hW he ck_X0 (mh_X0_steps l G hp7 this _ hE) (cwV 0 X.ht (lw_V q1425 q1427 qs16 q127 q1428) rfl rfl rfl hd_X0_steps (cxH (by decide) (by decide))) rfl hl.1 rfl (Nat.le_of_ble_eq_true rfl) dX0_road_41 ⟨(Nat.le_of_ble_eq_true rfl), (Nat.le_of_ble_eq_true rfl)⟩ (29) (166) rfl rfl (fun hp9 hE H locs hW => ?_)
        refine e_aload_n X hl 0 rfl dX0_road_44 rfl ?_
        refine h_getR X hW ck_X0 (k := 2) hE (by decide) q1226 (fun _ h => h) dX0_road_45 (fun r10 hE => ?_)
        refine h_new X hW ck_X7 hE q1152 q1353 q172 dflt_X7 (Nat.le_of_ble_eq_true rfl) (Nat.le_of_ble_eq_true rfl) (30) (171) rfl rfl dX0_road_48 (fun hp11 q12 hE H locs hW => ?_)
        refine e_dup X dX0_road_51 rfl ?_
        refine e_iload_n X hl 1 rfl dX0_road_52 rfl ?_
        refine e_iload_n X hl 2 rfl dX0_road_53 rfl ?_
        refine h_callI (rest := [.ref q12, va_rf r10]) (As := [vI a1, vI a2]) X hW (mh_X7_init l G hp11 q12 a1 a2 _ hE) (cwI 2 X.ht (lw_meth q1356) rfl rfl rfl (X.ht _ q172) (X.ht _ q1509) (X.ht _ q1355) rfl hd_X7_init (cxH (by decide) (by decide))) rfl hl.1 rfl (by generalize r10 = z0; cases z0 <;> exact Nat.le_of_ble_eq_true rfl) dX0_road_54 ⟨(Nat.le_of_ble_eq_true rfl), (Nat.le_of_ble_eq_true rfl)⟩ (30) (171) rfl rfl (fun hp13 hE H locs hW => ?_)
        refine e_iload_n X hl 3 rfl dX0_road_57 rfl ?_
        refine e_iload X hl 4 rfl dX0_road_58 ?_
        refine e_lload X hl 5 rfl dX0_road_60 ?_
        obtain ⟨⟨fs, he⟩, hE⟩ := hE
        refine h_callVR (rest := [va_rf r10]) (As := [vI a3, vI a4, vL a5]) X hW he ck_X7 (mh_X7_bounded l G hp13 q12 a3 a4 a5 _ hE) (cwV 3 X.ht (lw_V q1510 q1380 q1381 q172 q1382) rfl rfl rfl hd_X7_bounded (cxH (by decide) (by decide))) rfl hl.1 rfl (by generalize r10 = z0; cases z0 <;> exact Nat.le_of_ble_eq_true rfl) dX0_road_62 ⟨(Nat.le_of_ble_eq_true rfl), (Nat.le_of_ble_eq_true rfl)⟩ (30) (171) rfl rfl (fun r15 hp14 hE H locs hW => ?_)
        refine h_nn1 hE (fun b16 hE => ?_)
        obtain ⟨⟨fs, he⟩, hE⟩ := hE
        refine h_callVV (rest := []) (As := [va_rf r15]) X hW he ck_J3 (mh_J3_addLast l G hp14 b16 r15 _ hE) (cwV 1 X.ht (lw_V q1383 q1384 q1385 q131 q1386) rfl rfl rfl hd_J3_addLast (cxH (by decide) (by decide))) rfl hl.1 rfl (Nat.le_of_ble_eq_true rfl) dX0_road_65 ⟨(Nat.le_of_ble_eq_true rfl), (Nat.le_of_ble_eq_true rfl)⟩ (31) (174) rfl rfl (fun hp17 hE H locs hW => ?_)
        refine e_aload_n X hl 0 rfl dX0_road_68 rfl ?_
        refine h_getR X hW ck_X0 (k := 2) hE (by decide) q1226 (fun _ h => h) dX0_road_69 (fun r18 hE => ?_)
        refine h_nn0 hE (fun b19 hE => ?_)
        obtain ⟨⟨fs, he⟩, hE⟩ := hE
        refine h_callVI (rest := []) (As := []) X hW he ck_J3 (mh_J3_size l G hp17 b19 _ hE) (cwV 0 X.ht (lw_V q785 q786 q787 q131 q788) rfl rfl rfl hd_J3_size (cxH (by decide) (by decide))) rfl hl.1 rfl (Nat.le_of_ble_eq_true rfl) dX0_road_72 ⟨(Nat.le_of_ble_eq_true rfl), (Nat.le_of_ble_eq_true rfl)⟩ (31) (174) rfl rfl (fun v21 hp20 hE H locs hW => ?_)
        refine e_iconst X dX0_road_75 ?_
        refine e_isub X dX0_road_76 ?_
        exact h_zret X hW hE rfl (Nat.le_of_ble_eq_true rfl) (Nat.le_of_ble_eq_true rfl) dX0_road_77
      · refine e_bipush X dX0_road_37 (by decide) ?_
        exact h_zret (x := (-4)) X hW hE rfl (Nat.le_of_ble_eq_true rfl) (Nat.le_of_ble_eq_true rfl) dX0_road_39
    · refine e_bipush X dX0_road_22 (by decide) ?_
      exact h_zret (x := (-2)) X hW hE rfl (Nat.le_of_ble_eq_true rfl) (Nat.le_of_ble_eq_true rfl) dX0_road_24
  · refine e_iconst X dX0_road_9 ?_
    exact h_zret (x := (-1)) X hW hE rfl (Nat.le_of_ble_eq_true rfl) (Nat.le_of_ble_eq_true rfl) dX0_road_10
theorem mh_X0_road (l : Launch) (G : GG) (hp : HP) (this : Nat) (a1 : Int) (a2 : Int) (a3 : Int) (a4 : Int) (a5 : Int) (Q : Int → HP → Prop) (hE : w_X0_road G hp this a1 a2 a3 a4 a5 Q) : MH l yX0_road (ws_ yX0_road cX0_road 7 (some .int)) 7 31 174 G [.ref this, vI a1, vI a2, vI a3, vI a4, vL a5] hp (pI Q) :=
  MH.of (by decide +kernel) (Nat.le_of_ble_eq_true rfl) rfl (fun p e s m below meth c ls X hin hW hl => hwb_X0_road X hE hW hl)
def w_X0_isRoad (G : GG) (hp : HP) (this : Nat) (a1 : Int) (Q : Int → HP → Prop) : Prop :=
  hR hp this 0 2 fun r1 => hNn r1 fun b2 => hIs hp b2 12 (w_J3_size G hp b2 (fun v4 hp3 => w_X0_isIn G hp3 (w32 a1) 0 (w32 (v4 - 1)) (fun v6 hp5 => hZ v6 (Q v6 hp5))))
theorem hwb_X0_isRoad {p : Program} {l : Launch} {e : Env} {s : State} {m : MethodId} {args : Array Value} {below : List Frame} {meth : Method} {c : Code} {G : GG} (X : CX p s m args meth c cX0_isRoad 2 RX0 (some .boolean) G) {Q : Int → HP → Prop} {hp : HP} {this : Nat} {a1 : Int} (hE : w_X0_isRoad G hp this a1 Q) {H : Heap} {locs : List Loc} {ls : Array Slot} (hW : WH G hp H locs) (hl : lv_has ls 2 [(0, .ref this), (1, vI a1)]) : W p l e (rmA 1 0 0) s m args below meth c H locs 0 0 (QH below G args s 0 0 (pI Q)) (F0 m 0 ls []) := by
  unfold w_X0_isRoad at hE
  refine e_iload_n X hl 1 rfl dX0_isRoad_0 rfl ?_
  refine e_i2l X dX0_isRoad_1 ?_
  refine e_lconst X 0 dX0_isRoad_2 (by decide) ?_
  refine e_aload_n X hl 0 rfl dX0_isRoad_3 rfl ?_
  refine h_getR X hW ck_X0 (k := 2) hE (by decide) q1226 (fun _ h => h) dX0_isRoad_4 (fun r1 hE => ?_)
  refine h_nn0 hE (fun b2 hE => ?_)
  obtain ⟨⟨fs, he⟩, hE⟩ := hE
  refine h_callVI (rest := [vL 0, vL (w32 a1)]) (As := []) X hW he ck_J3 (mh_J3_size l G hp b2 _ hE) (cwV 0 X.ht (lw_V q785 q786 q787 q131 q788) rfl rfl rfl hd_J3_size (cxH (by decide) (by decide))) rfl hl.1 rfl (Nat.le_of_ble_eq_true rfl) dX0_isRoad_7 ⟨(Nat.le_of_ble_eq_true rfl), (Nat.le_of_ble_eq_true rfl)⟩ (0) (0) rfl rfl (fun v4 hp3 hE H locs hW => ?_)
  refine e_iconst X dX0_isRoad_10 ?_
  refine e_isub X dX0_isRoad_11 ?_
  refine e_i2l X dX0_isRoad_12 ?_
  refine h_callSI (rest := []) (As := [vL (w32 a1), vL 0, vL (w32 (v4 - 1))]) X hW (mh_X0_isIn l G hp3 (w32 a1) 0 (w32 (v4 - 1)) _ hE) (va_cwS 3 X.ht (lw_S q1422 q1423 q127 q1424) rfl rfl rfl hd_X0_isIn (cxH (by decide) (by decide))) rfl hl.1 rfl (Nat.le_of_ble_eq_true rfl) dX0_isRoad_13 ⟨(Nat.le_of_ble_eq_true rfl), (Nat.le_of_ble_eq_true rfl)⟩ (0) (0) rfl rfl (fun v6 hp5 hE H locs hW => ?_)
  obtain ⟨hn, hE⟩ := h_tz hE
  exact h_zret X hW hE hn (Nat.le_of_ble_eq_true rfl) (Nat.le_of_ble_eq_true rfl) dX0_isRoad_16
theorem mh_X0_isRoad (l : Launch) (G : GG) (hp : HP) (this : Nat) (a1 : Int) (Q : Int → HP → Prop) (hE : w_X0_isRoad G hp this a1 Q) : MH l yX0_isRoad (ws_ yX0_isRoad cX0_isRoad 2 (some .boolean)) 1 0 0 G [.ref this, vI a1] hp (pI Q) :=
  MH.of (by decide +kernel) (Nat.le_of_ble_eq_true rfl) rfl (fun p e s m below meth c ls X hin hW hl => hwb_X0_isRoad X hE hW hl)
def w_X0_alter (G : GG) (hp : HP) (this : Nat) (a1 : Int) (a2 : Int) (a3 : Int) (a4 : Int) (Q : Int → HP → Prop) : Prop :=
  hIs hp this 0 (w_X0_isRoad G hp this a1 (fun v2 hp1 => hIf (¬ w32 v2 = 0) (w_X7_may G hp1 a2 a3 a4 (fun v4 hp3 => hIf (¬ w32 v4 = 0) (hIs hp3 this 0 (w_X0_steps G hp3 this (fun hp5 => hR hp5 this 0 2 fun r6 => hNn r6 fun b7 => hIs hp5 b7 12 (w_J3_get G hp5 b7 a1 (fun r9 hp8 => hCast hp8 7 r9 (hNn r9 fun b10 => hIs hp8 b10 7 (w_X7_bounded G hp8 b10 a2 a3 a4 (fun r12 hp11 => Q 1 hp11)))))))) (Q (-2) hp3))) (Q (-1) hp1)))
theorem hd_X0_alter : yX0_alter.cls = RX0 ∧ yX0_alter.cls ≠ "java/lang/invoke/MethodHandle" ∧ yX0_alter.cls ≠ "java/lang/invoke/VarHandle" ∧ (parseMethodDescriptor yX0_alter.desc).map (fun d => d.parameters.length) = some 4 := by decide +kernel
theorem hwb_X0_alter {p : Program} {l : Launch} {e : Env} {s : State} {m : MethodId} {args : Array Value} {below : List Frame} {meth : Method} {c : Code} {G : GG} (X : CX p s m args meth c cX0_alter 6 RX0 (some .int) G) {Q : Int → HP → Prop} {hp : HP} {this : Nat} {a1 : Int} {a2 : Int} {a3 : Int} {a4 : Int} (hE : w_X0_alter G hp this a1 a2 a3 a4 Q) {H : Heap} {locs : List Loc} {ls : Array Slot} (hW : WH G hp H locs) (hl : lv_has ls 6 [(0, .ref this), (1, vI a1), (2, vI a2), (3, vI a3), (4, vL a4)]) : W p l e (rmA 7 29 166) s m args below meth c H locs 0 0 (QH below G args s 29 166 (pI Q)) (F0 m 0 ls []) := by
  unfold w_X0_alter at hE
  refine e_aload_n X hl 0 rfl dX0_alter_0 rfl ?_
  refine e_iload_n X hl 1 rfl dX0_alter_1 rfl ?_
  obtain ⟨⟨fs, he⟩, hE⟩ := hE
  refine h_callVI (rest := []) (As := [vI a1]) X hW he ck_X0 (mh_X0_isRoad l G hp this a1 _ hE) (cwV 1 X.ht (lw_V q1515 q1517 qs22 q127 q1518) rfl rfl rfl hd_X0_isRoad (cxH (by decide) (by decide))) rfl hl.1 rfl (Nat.le_of_ble_eq_true rfl) dX0_alter_2 ⟨(Nat.le_of_ble_eq_true rfl), (Nat.le_of_ble_eq_true rfl)⟩ (0) (0) rfl rfl (fun v2 hp1 hE H locs hW => ?_)
  refine h_if_ne X (w32 v2) rfl hE dX0_alter_5 rfl (fun hE => ?_) (fun hE => ?_)
  · refine e_iload_n X hl 2 rfl dX0_alter_10 rfl ?_
    refine e_iload_n X hl 3 rfl dX0_alter_11 rfl ?_
    refine e_lload X hl 4 rfl dX0_alter_12 ?_
    refine h_callSI (rest := []) (As := [vI a2, vI a3, vL a4]) X hW (mh_X7_may l G hp1 a2 a3 a4 _ hE) (va_cwS 3 X.ht (lw_S q1502 q1503 q172 q1504) rfl rfl rfl hd_X7_may (cxH (by decide) (by decide))) rfl hl.1 rfl (Nat.le_of_ble_eq_true rfl) dX0_alter_14 ⟨(Nat.le_of_ble_eq_true rfl), (Nat.le_of_ble_eq_true rfl)⟩ (0) (0) rfl rfl (fun v4 hp3 hE H locs hW => ?_)
    refine h_if_ne X (w32 v4) rfl hE dX0_alter_17 rfl (fun hE => ?_) (fun hE => ?_)
    · refine e_aload_n X hl 0 rfl dX0_alter_23 rfl ?_
      obtain ⟨⟨fs, he⟩, hE⟩ := hE
      refine h_callVV (rest := []) (As := []) X hW he ck_X0 (mh_X0_steps l G hp3 this _ hE) (cwV 0 X.ht (lw_V q1425 q1427 qs16 q127 q1428) rfl rfl rfl hd_X0_steps (cxH (by decide) (by decide))) rfl hl.1 rfl (Nat.le_of_ble_eq_true rfl) dX0_alter_24 ⟨(Nat.le_of_ble_eq_true rfl), (Nat.le_of_ble_eq_true rfl)⟩ (29) (166) rfl rfl (fun hp5 hE H locs hW => ?_)
      refine e_aload_n X hl 0 rfl dX0_alter_27 rfl ?_
      refine h_getR X hW ck_X0 (k := 2) hE (by decide) q1226 (fun _ h => h) dX0_alter_28 (fun r6 hE => ?_)
      refine e_iload_n X hl 1 rfl dX0_alter_31 rfl ?_
      refine h_nn1 hE (fun b7 hE => ?_)
      obtain ⟨⟨fs, he⟩, hE⟩ := hE
      refine h_callVR (rest := []) (As := [vI a1]) X hW he ck_J3 (mh_J3_get l G hp5 b7 a1 _ hE) (cwV 1 X.ht (lw_V q1519 q934 q3586 q131 q935) rfl rfl rfl hd_J3_get (cxH (by decide) (by decide))) rfl hl.1 rfl (Nat.le_of_ble_eq_true rfl) dX0_alter_32 ⟨(Nat.le_of_ble_eq_true rfl), (Nat.le_of_ble_eq_true rfl)⟩ (29) (166) rfl rfl (fun r9 hp8 hE H locs hW => ?_)
      refine h_castS X hW ck_X7 (r := r9) hE q1152 dX0_alter_35 (fun hE => ?_)
      refine e_iload_n X hl 2 rfl dX0_alter_38 rfl ?_
      refine e_iload_n X hl 3 rfl dX0_alter_39 rfl ?_
      refine e_lload X hl 4 rfl dX0_alter_40 ?_
      refine h_nn3 hE (fun b10 hE => ?_)
      obtain ⟨⟨fs, he⟩, hE⟩ := hE
      refine h_callVR (rest := []) (As := [vI a2, vI a3, vL a4]) X hW he ck_X7 (mh_X7_bounded l G hp8 b10 a2 a3 a4 _ hE) (cwV 3 X.ht (lw_V q1510 q1380 q1381 q172 q1382) rfl rfl rfl hd_X7_bounded (cxH (by decide) (by decide))) rfl hl.1 rfl (Nat.le_of_ble_eq_true rfl) dX0_alter_42 ⟨(Nat.le_of_ble_eq_true rfl), (Nat.le_of_ble_eq_true rfl)⟩ (29) (166) rfl rfl (fun r12 hp11 hE H locs hW => ?_)
      refine e_pop X dX0_alter_45 (va_rf_cat _) ?_
      refine e_iconst X dX0_alter_46 ?_
      exact h_zret (x := 1) X hW hE rfl (Nat.le_of_ble_eq_true rfl) (Nat.le_of_ble_eq_true rfl) dX0_alter_47
    · refine e_bipush X dX0_alter_20 (by decide) ?_
      exact h_zret (x := (-2)) X hW hE rfl (Nat.le_of_ble_eq_true rfl) (Nat.le_of_ble_eq_true rfl) dX0_alter_22
  · refine e_iconst X dX0_alter_8 ?_
    exact h_zret (x := (-1)) X hW hE rfl (Nat.le_of_ble_eq_true rfl) (Nat.le_of_ble_eq_true rfl) dX0_alter_9
theorem mh_X0_alter (l : Launch) (G : GG) (hp : HP) (this : Nat) (a1 : Int) (a2 : Int) (a3 : Int) (a4 : Int) (Q : Int → HP → Prop) (hE : w_X0_alter G hp this a1 a2 a3 a4 Q) : MH l yX0_alter (ws_ yX0_alter cX0_alter 6 (some .int)) 7 29 166 G [.ref this, vI a1, vI a2, vI a3, vL a4] hp (pI Q) :=
  MH.of (by decide +kernel) (Nat.le_of_ble_eq_true rfl) rfl (fun p e s m below meth c ls X hin hW hl => hwb_X0_alter X hE hW hl)
def w_X0_close_L24 (G : GG) (this : Nat) (b_1 : Int) (b_2 : Option Nat) (k : HP → Int → Prop) : Nat → HP → Int → Prop
  | 0, _, _ => False
  | n + 1, hp, x3 =>
    hNn b_2 fun b8 => hIs hp b8 21 (w_J24_hasNext G hp b8 (fun v10 hp9 => hIf (w32 v10 = 0) (k hp9 x3) (hNn b_2 fun b11 => hIs hp9 b11 21 (w_J24_next G hp9 b11 (fun r13 hp12 => hJn (fun (hp15 : HP) => hJn (x3 + 1) fun v16 => w_X0_close_L24 G this b_1 b_2 k n hp15 v16) fun kj14 => hIf (¬ w32 x3 = w32 b_1) (kj14 hp12) (hNn b_2 fun b17 => hIs hp12 b17 21 (w_J24_remove G hp12 b17 (fun hp18 => kj14 hp18))))))))
def w_X0_close (G : GG) (hp : HP) (this : Nat) (a1 : Int) (Q : Int → HP → Prop) : Prop :=
  hIs hp this 0 (w_X0_isRoad G hp this a1 (fun v2 hp1 => hIf (¬ w32 v2 = 0) (hIs hp1 this 0 (w_X0_steps G hp1 this (fun hp3 => hR hp3 this 0 2 fun r4 => hNn r4 fun b5 => hIs hp3 b5 12 (w_J2_iterator G hp3 b5 (fun r7 hp6 => ∃ n : Nat, w_X0_close_L24 G this a1 r7 (fun (hp19 : HP) (v20 : Int) => hR hp19 this 0 2 fun r21 => hNn r21 fun b22 => hIs hp19 b22 12 (w_J3_size G hp19 b22 (fun v24 hp23 => Q v24 hp23))) n hp6 0))))) (Q (-1) hp1)))
theorem hd_X0_close : yX0_close.cls = RX0 ∧ yX0_close.cls ≠ "java/lang/invoke/MethodHandle" ∧ yX0_close.cls ≠ "java/lang/invoke/VarHandle" ∧ (parseMethodDescriptor yX0_close.desc).map (fun d => d.parameters.length) = some 1 := by decide +kernel
theorem hwl_X0_close_24 {p : Program} {l : Launch} {e : Env} {s : State} {m : MethodId} {args : Array Value} {below : List Frame} {meth : Method} {c : Code} {G : GG} (X : CX p s m args meth c cX0_close 4 RX0 (some .int) G) {Q : Int → HP → Prop} {this : Nat} {b_1 : Int} {b_2 : Option Nat} {k : HP → Int → Prop} : ∀ (n : Nat) (hp : HP) (x3 : Int) (H : Heap) (locs : List Loc) (ls : Array Slot) (hE : w_X0_close_L24 G this b_1 b_2 k n hp x3) (hW : WH G hp H locs) (hl : lv_has ls 4 [(0, .ref this), (1, vI b_1), (2, va_rf b_2), (3, vI x3)]) (hk : ∀ (hp : HP) (x3 : Int) (H : Heap) (locs : List Loc) (ls : Array Slot), WH G hp H locs → lv_has ls 4 [(0, .ref this), (1, vI b_1), (2, va_rf b_2), (3, vI x3)] → k hp x3 → W p l e (rmA 7 30 171) s m args below meth c H locs (30) (171) (QH below G args s 30 171 (pI Q)) (F0 m 57 ls [])), W p l e (rmA 7 30 171) s m args below meth c H locs (30) (171) (QH below G args s 30 171 (pI Q)) (F0 m 24 ls []) := by
  intro n
  induction n with
  | zero =>
    intro hp x3 H locs ls hE hW hl hk
    unfold w_X0_close_L24 at hE
    exact hE.elim
  | succ n ih =>
    intro hp x3 H locs ls hE hW hl hk
    unfold w_X0_close_L24 at hE
    refine e_aloadR_n X hl 2 rfl dX0_close_24 rfl ?_
    refine h_nn0 hE (fun b8 hE => ?_)
    obtain ⟨⟨fs, he⟩, hE⟩ := hE
    refine h_callFI (rest := []) (As := []) X hW he ck_J24 (mh_J24_hasNext l G hp b8 _ hE) (cwH_F X 0 q866 q892 q894 q158 q896 (by decide +kernel) (by decide +kernel) (by decide) (by decide)) rfl hl.1 rfl (Nat.le_of_ble_eq_true rfl) dX0_close_25 ⟨(Nat.le_of_ble_eq_true rfl), (Nat.le_of_ble_eq_true rfl)⟩ (30) (171) rfl rfl (fun v10 hp9 hE H locs hW => ?_)
    refine h_if_eq X (w32 v10) rfl hE dX0_close_30 rfl (fun hE => ?_) (fun hE => ?_)
    · exact hk hp9 x3 _ _ _ hW (lv_sub hl [0, 1, 2, 3] rfl) hE
    · refine e_aloadR_n X hl 2 rfl dX0_close_33 rfl ?_
      refine h_nn0 hE (fun b11 hE => ?_)
      obtain ⟨⟨fs, he⟩, hE⟩ := hE
      refine h_callFR (rest := []) (As := []) X hW he ck_J24 (mh_J24_next l G hp9 b11 _ hE) (cwH_F X 0 q917 q1103 q1105 q158 q1107 (by decide +kernel) (by decide +kernel) (by decide) (by decide)) rfl hl.1 rfl (Nat.le_of_ble_eq_true rfl) dX0_close_34 ⟨(Nat.le_of_ble_eq_true rfl), (Nat.le_of_ble_eq_true rfl)⟩ (30) (171) rfl rfl (fun r13 hp12 hE H locs hW => ?_)
      refine e_pop X dX0_close_39 (va_rf_cat _) ?_
      refine e_iload_n X hl 3 rfl dX0_close_40 rfl ?_
      refine e_iload_n X hl 1 rfl dX0_close_41 rfl ?_
      obtain ⟨kj14, hkj14, hE⟩ := h_jn hE
      have hjkj14 : ∀ (hp15 : HP) (H : Heap) (locs : List Loc) (ls : Array Slot), WH G hp15 H locs → lv_has ls 4 [(0, .ref this), (1, vI b_1), (2, va_rf b_2), (3, vI x3)] → kj14 hp15 → W p l e (rmA 7 30 171) s m args below meth c H locs (30) (171) (QH below G args s 30 171 (pI Q)) (F0 m 51 ls []) := by
        intro hp15 H locs ls hW hl hE
        subst hkj14
        refine h_iinc X hl 3 hE (fun v16 => [(3, vI v16), (0, .ref this), (1, vI b_1), (2, va_rf b_2)]) rfl dX0_close_51 (by decide) (fun _ => by generalize b_2 = r; cases r <;> rfl) (fun v16 hE ls hl => ?_)
        refine e_goto X dX0_close_54 rfl ?_
        exact ih hp15 v16 _ _ _ hE hW (lv_sub hl [1, 2, 3, 0] rfl) hk
      refine h_icmp_ne X (w32 x3) (w32 b_1) rfl rfl hE dX0_close_42 rfl (fun hE => ?_) (fun hE => ?_)
      · exact hjkj14 hp12 _ _ _ hW (lv_sub hl [0, 1, 2, 3] rfl) hE
      · refine e_aloadR_n X hl 2 rfl dX0_close_45 rfl ?_
        refine h_nn0 hE (fun b17 hE => ?_)
        obtain ⟨⟨fs, he⟩, hE⟩ := hE
        refine h_callFV (rest := []) (As := []) X hW he ck_J24 (mh_J24_remove l G hp12 b17 _ hE) (cwH_F X 0 q1525 q1593 q1595 q158 q1597 (by decide +kernel) (by decide +kernel) (by decide) (by decide)) rfl hl.1 rfl (Nat.le_of_ble_eq_true rfl) dX0_close_46 ⟨(Nat.le_of_ble_eq_true rfl), (Nat.le_of_ble_eq_true rfl)⟩ (30) (171) rfl rfl (fun hp18 hE H locs hW => ?_)
        exact hjkj14 hp18 _ _ _ hW (lv_sub hl [0, 1, 2, 3] rfl) hE
theorem hwb_X0_close {p : Program} {l : Launch} {e : Env} {s : State} {m : MethodId} {args : Array Value} {below : List Frame} {meth : Method} {c : Code} {G : GG} (X : CX p s m args meth c cX0_close 4 RX0 (some .int) G) {Q : Int → HP → Prop} {hp : HP} {this : Nat} {a1 : Int} (hE : w_X0_close G hp this a1 Q) {H : Heap} {locs : List Loc} {ls : Array Slot} (hW : WH G hp H locs) (hl : lv_has ls 4 [(0, .ref this), (1, vI a1)]) : W p l e (rmA 7 30 171) s m args below meth c H locs 0 0 (QH below G args s 30 171 (pI Q)) (F0 m 0 ls []) := by
  unfold w_X0_close at hE
  refine e_aload_n X hl 0 rfl dX0_close_0 rfl ?_
  refine e_iload_n X hl 1 rfl dX0_close_1 rfl ?_
  obtain ⟨⟨fs, he⟩, hE⟩ := hE
  refine h_callVI (rest := []) (As := [vI a1]) X hW he ck_X0 (mh_X0_isRoad l G hp this a1 _ hE) (cwV 1 X.ht (lw_V q1515 q1517 qs22 q127 q1518) rfl rfl rfl hd_X0_isRoad (cxH (by decide) (by decide))) rfl hl.1 rfl (Nat.le_of_ble_eq_true rfl) dX0_close_2 ⟨(Nat.le_of_ble_eq_true rfl), (Nat.le_of_ble_eq_true rfl)⟩ (0) (0) rfl rfl (fun v2 hp1 hE H locs hW => ?_)
  refine h_if_ne X (w32 v2) rfl hE dX0_close_5 rfl (fun hE => ?_) (fun hE => ?_)
  · refine e_aload_n X hl 0 rfl dX0_close_10 rfl ?_
    obtain ⟨⟨fs, he⟩, hE⟩ := hE
    refine h_callVV (rest := []) (As := []) X hW he ck_X0 (mh_X0_steps l G hp1 this _ hE) (cwV 0 X.ht (lw_V q1425 q1427 qs16 q127 q1428) rfl rfl rfl hd_X0_steps (cxH (by decide) (by decide))) rfl hl.1 rfl (Nat.le_of_ble_eq_true rfl) dX0_close_11 ⟨(Nat.le_of_ble_eq_true rfl), (Nat.le_of_ble_eq_true rfl)⟩ (29) (166) rfl rfl (fun hp3 hE H locs hW => ?_)
    refine e_aload_n X hl 0 rfl dX0_close_14 rfl ?_
    refine h_getR X hW ck_X0 (k := 2) hE (by decide) q1226 (fun _ h => h) dX0_close_15 (fun r4 hE => ?_)
    refine h_nn0 hE (fun b5 hE => ?_)
    obtain ⟨⟨fs, he⟩, hE⟩ := hE
    refine h_callUR (rest := []) (As := []) X hW he ck_J3 (mh_J2_iterator l G hp3 b5 _ hE) (cwH_U X 0 q812 q813 q815 q816 q130 q817 q814 (by decide +kernel) (by decide) (by decide)) rfl hl.1 rfl (Nat.le_of_ble_eq_true rfl) dX0_close_18 ⟨(Nat.le_of_ble_eq_true rfl), (Nat.le_of_ble_eq_true rfl)⟩ (30) (171) rfl rfl (fun r7 hp6 hE H locs hW => ?_)
    refine e_astoreR_n X hl [(2, va_rf r7), (0, .ref this), (1, vI a1)] dX0_close_21 rfl (by decide) rfl (fun ls hl => ?_)
    refine e_iconst X dX0_close_22 ?_
    refine e_istore_n X hl [(3, vI 0), (2, va_rf r7), (0, .ref this), (1, vI a1)] dX0_close_23 rfl (by decide) (by generalize r7 = r; cases r <;> rfl) (fun ls hl => ?_)
    obtain ⟨n, hE⟩ := hE
    refine hwl_X0_close_24 X n hp6 0 _ _ _ hE hW (lv_sub hl [2, 3, 1, 0] rfl) (fun hp19 v20 H locs ls hW hl hE => ?_)
    refine e_aload_n X hl 0 rfl dX0_close_57 rfl ?_
    refine h_getR X hW ck_X0 (k := 2) hE (by decide) q1226 (fun _ h => h) dX0_close_58 (fun r21 hE => ?_)
    refine h_nn0 hE (fun b22 hE => ?_)
    obtain ⟨⟨fs, he⟩, hE⟩ := hE
    refine h_callVI (rest := []) (As := []) X hW he ck_J3 (mh_J3_size l G hp19 b22 _ hE) (cwV 0 X.ht (lw_V q785 q786 q787 q131 q788) rfl rfl rfl hd_J3_size (cxH (by decide) (by decide))) rfl hl.1 rfl (Nat.le_of_ble_eq_true rfl) dX0_close_61 ⟨(Nat.le_of_ble_eq_true rfl), (Nat.le_of_ble_eq_true rfl)⟩ (30) (171) rfl rfl (fun v24 hp23 hE H locs hW => ?_)
    exact h_zret X hW hE rfl (Nat.le_of_ble_eq_true rfl) (Nat.le_of_ble_eq_true rfl) dX0_close_64
  · refine e_iconst X dX0_close_8 ?_
    exact h_zret (x := (-1)) X hW hE rfl (Nat.le_of_ble_eq_true rfl) (Nat.le_of_ble_eq_true rfl) dX0_close_9
theorem mh_X0_close (l : Launch) (G : GG) (hp : HP) (this : Nat) (a1 : Int) (Q : Int → HP → Prop) (hE : w_X0_close G hp this a1 Q) : MH l yX0_close (ws_ yX0_close cX0_close 4 (some .int)) 7 30 171 G [.ref this, vI a1] hp (pI Q) :=
  MH.of (by decide +kernel) (Nat.le_of_ble_eq_true rfl) rfl (fun p e s m below meth c ls X hin hW hl => hwb_X0_close X hE hW hl)
def w_X0_of (G : GG) (hp : HP) (this : Nat) (a1 : Int) (a2 : Int) (Q : Int → HP → Prop) : Prop :=
  hIs hp this 0 (w_X0_isRoad G hp this a1 (fun v2 hp1 => hIf (w32 v2 = 0) (Q (-9223372036854775808) hp1) (w_X0_isIn G hp1 (w32 a2) 0 4 (fun v4 hp3 => hIf (w32 v4 = 0) (Q (-9223372036854775808) hp3) (hR hp3 this 0 2 fun r5 => hNn r5 fun b6 => hIs hp3 b6 12 (w_J3_get G hp3 b6 a1 (fun r8 hp7 => hCast hp7 7 r8 (hNn r8 fun b9 => hIs hp7 b9 7 (w_X7_figure G hp7 b9 a2 (fun v11 hp10 => Q v11 hp10))))))))))
theorem hd_X0_of : yX0_of.cls = RX0 ∧ yX0_of.cls ≠ "java/lang/invoke/MethodHandle" ∧ yX0_of.cls ≠ "java/lang/invoke/VarHandle" ∧ (parseMethodDescriptor yX0_of.desc).map (fun d => d.parameters.length) = some 2 := by decide +kernel
theorem hwb_X0_of {p : Program} {l : Launch} {e : Env} {s : State} {m : MethodId} {args : Array Value} {below : List Frame} {meth : Method} {c : Code} {G : GG} (X : CX p s m args meth c cX0_of 3 RX0 (some .long) G) {Q : Int → HP → Prop} {hp : HP} {this : Nat} {a1 : Int} {a2 : Int} (hE : w_X0_of G hp this a1 a2 Q) {H : Heap} {locs : List Loc} {ls : Array Slot} (hW : WH G hp H locs) (hl : lv_has ls 3 [(0, .ref this), (1, vI a1), (2, vI a2)]) : W p l e (rmA 3 0 0) s m args below meth c H locs 0 0 (QH below G args s 0 0 (pJ Q)) (F0 m 0 ls []) := by
  unfold w_X0_of at hE
  refine e_aload_n X hl 0 rfl dX0_of_0 rfl ?_
  refine e_iload_n X hl 1 rfl dX0_of_1 rfl ?_
  obtain ⟨⟨fs, he⟩, hE⟩ := hE
  refine h_callVI (rest := []) (As := [vI a1]) X hW he ck_X0 (mh_X0_isRoad l G hp this a1 _ hE) (cwV 1 X.ht (lw_V q1515 q1517 qs22 q127 q1518) rfl rfl rfl hd_X0_isRoad (cxH (by decide) (by decide))) rfl hl.1 rfl (Nat.le_of_ble_eq_true rfl) dX0_of_2 ⟨(Nat.le_of_ble_eq_true rfl), (Nat.le_of_ble_eq_true rfl)⟩ (0) (0) rfl rfl (fun v2 hp1 hE H locs hW => ?_)
  refine h_if_eq X (w32 v2) rfl hE dX0_of_5 rfl (fun hE => ?_) (fun hE => ?_)
  · refine e_ldc2 X (-9223372036854775808) q1943 (by decide) dX0_of_38 ?_
    exact h_lret X hW hE (Nat.le_of_ble_eq_true rfl) (Nat.le_of_ble_eq_true rfl) dX0_of_41
  · refine e_iload_n X hl 2 rfl dX0_of_8 rfl ?_
    refine e_i2l X dX0_of_9 ?_
    refine e_lconst X 0 dX0_of_10 (by decide) ?_
    refine e_ldc2 X 4 q1938 (by decide) dX0_of_11 ?_
    refine h_callSI (rest := []) (As := [vL (w32 a2), vL 0, vL 4]) X hW (mh_X0_isIn l G hp1 (w32 a2) 0 4 _ hE) (va_cwS 3 X.ht (lw_S q1422 q1423 q127 q1424) rfl rfl rfl hd_X0_isIn (cxH (by decide) (by decide))) rfl hl.1 rfl (Nat.le_of_ble_eq_true rfl) dX0_of_14 ⟨(Nat.le_of_ble_eq_true rfl), (Nat.le_of_ble_eq_true rfl)⟩ (0) (0) rfl rfl (fun v4 hp3 hE H locs hW => ?_)
    refine h_if_eq X (w32 v4) rfl hE dX0_of_17 rfl (fun hE => ?_) (fun hE => ?_)
    · refine e_ldc2 X (-9223372036854775808) q1943 (by decide) dX0_of_38 ?_
      exact h_lret X hW hE (Nat.le_of_ble_eq_true rfl) (Nat.le_of_ble_eq_true rfl) dX0_of_41
    · refine e_aload_n X hl 0 rfl dX0_of_20 rfl ?_
      refine h_getR X hW ck_X0 (k := 2) hE (by decide) q1226 (fun _ h => h) dX0_of_21 (fun r5 hE => ?_)
      refine e_iload_n X hl 1 rfl dX0_of_24 rfl ?_
      refine h_nn1 hE (fun b6 hE => ?_)
      obtain ⟨⟨fs, he⟩, hE⟩ := hE
      refine h_callVR (rest := []) (As := [vI a1]) X hW he ck_J3 (mh_J3_get l G hp3 b6 a1 _ hE) (cwV 1 X.ht (lw_V q1519 q934 q3586 q131 q935) rfl rfl rfl hd_J3_get (cxH (by decide) (by decide))) rfl hl.1 rfl (Nat.le_of_ble_eq_true rfl) dX0_of_25 ⟨(Nat.le_of_ble_eq_true rfl), (Nat.le_of_ble_eq_true rfl)⟩ (0) (0) rfl rfl (fun r8 hp7 hE H locs hW => ?_)
      refine h_castS X hW ck_X7 (r := r8) hE q1152 dX0_of_28 (fun hE => ?_)
      refine e_iload_n X hl 2 rfl dX0_of_31 rfl ?_
      refine h_nn1 hE (fun b9 hE => ?_)
      obtain ⟨⟨fs, he⟩, hE⟩ := hE
      refine h_callVJ (rest := []) (As := [vI a2]) X hW he ck_X7 (mh_X7_figure l G hp7 b9 a2 _ hE) (cwV 1 X.ht (lw_V q1939 q1940 q1941 q172 q1942) rfl rfl rfl hd_X7_figure (cxH (by decide) (by decide))) rfl hl.1 rfl (Nat.le_of_ble_eq_true rfl) dX0_of_32 ⟨(Nat.le_of_ble_eq_true rfl), (Nat.le_of_ble_eq_true rfl)⟩ (0) (0) rfl rfl (fun v11 hp10 hE H locs hW => ?_)
      refine e_goto X dX0_of_35 rfl ?_
      exact h_lret X hW hE (Nat.le_of_ble_eq_true rfl) (Nat.le_of_ble_eq_true rfl) dX0_of_41
theorem mh_X0_of (l : Launch) (G : GG) (hp : HP) (this : Nat) (a1 : Int) (a2 : Int) (Q : Int → HP → Prop) (hE : w_X0_of G hp this a1 a2 Q) : MH l yX0_of (ws_ yX0_of cX0_of 3 (some .long)) 3 0 0 G [.ref this, vI a1, vI a2] hp (pJ Q) :=
  MH.of (by decide +kernel) (Nat.le_of_ble_eq_true rfl) rfl (fun p e s m below meth c ls X hin hW hl => hwb_X0_of X hE hW hl)
def w_X0_image (G : GG) (hp : HP) (this : Nat) (Q : Int → HP → Prop) : Prop :=
  hIs hp this 0 (w_X0_shot G hp this (fun r2 hp1 => hPut hp1 this 0 31 (va_rf r2) fun hp3 => hR hp3 this 0 2 fun r4 => hNn r4 fun b5 => hIs hp3 b5 12 (w_J3_size G hp3 b5 (fun v7 hp6 => Q v7 hp6))))
theorem hd_X0_image : yX0_image.cls = RX0 ∧ yX0_image.cls ≠ "java/lang/invoke/MethodHandle" ∧ yX0_image.cls ≠ "java/lang/invoke/VarHandle" ∧ (parseMethodDescriptor yX0_image.desc).map (fun d => d.parameters.length) = some 0 := by decide +kernel
theorem hwb_X0_image {p : Program} {l : Launch} {e : Env} {s : State} {m : MethodId} {args : Array Value} {below : List Frame} {meth : Method} {c : Code} {G : GG} (X : CX p s m args meth c cX0_image 1 RX0 (some .int) G) {Q : Int → HP → Prop} {hp : HP} {this : Nat} (hE : w_X0_image G hp this Q) {H : Heap} {locs : List Loc} {ls : Array Slot} (hW : WH G hp H locs) (hl : lv_has ls 1 [(0, .ref this)]) : W p l e (rmA 6 29 166) s m args below meth c H locs 0 0 (QH below G args s 29 166 (pI Q)) (F0 m 0 ls []) := by
  unfold w_X0_image at hE
  refine e_aload_n X hl 0 rfl dX0_image_0 rfl ?_
  refine e_aload_n X hl 0 rfl dX0_image_1 rfl ?_
  obtain ⟨⟨fs, he⟩, hE⟩ := hE
  refine h_callVR (rest := [.ref this]) (As := []) X hW he ck_X0 (mh_X0_shot l G hp this _ hE) (cwV 0 X.ht (lw_V q1429 q1431 qs17 q127 q1432) rfl rfl rfl hd_X0_shot (cxH (by decide) (by decide))) rfl hl.1 rfl (Nat.le_of_ble_eq_true rfl) dX0_image_2 ⟨(Nat.le_of_ble_eq_true rfl), (Nat.le_of_ble_eq_true rfl)⟩ (29) (166) rfl rfl (fun r2 hp1 hE H locs hW => ?_)
  refine h_put X hW ck_X0 (k := 31) hE (by decide) q1256 (fun _ h => h) rfl rfl (fit_R r2) dX0_image_5 (fun hp3 hE H locs hW => ?_)
  refine e_aload_n X hl 0 rfl dX0_image_8 rfl ?_
  refine h_getR X hW ck_X0 (k := 2) hE (by decide) q1226 (fun _ h => h) dX0_image_9 (fun r4 hE => ?_)
  refine h_nn0 hE (fun b5 hE => ?_)
  obtain ⟨⟨fs, he⟩, hE⟩ := hE
  refine h_callVI (rest := []) (As := []) X hW he ck_J3 (mh_J3_size l G hp3 b5 _ hE) (cwV 0 X.ht (lw_V q785 q786 q787 q131 q788) rfl rfl rfl hd_J3_size (cxH (by decide) (by decide))) rfl hl.1 rfl (Nat.le_of_ble_eq_true rfl) dX0_image_12 ⟨(Nat.le_of_ble_eq_true rfl), (Nat.le_of_ble_eq_true rfl)⟩ (29) (166) rfl rfl (fun v7 hp6 hE H locs hW => ?_)
  exact h_zret X hW hE rfl (Nat.le_of_ble_eq_true rfl) (Nat.le_of_ble_eq_true rfl) dX0_image_15
theorem mh_X0_image (l : Launch) (G : GG) (hp : HP) (this : Nat) (Q : Int → HP → Prop) (hE : w_X0_image G hp this Q) : MH l yX0_image (ws_ yX0_image cX0_image 1 (some .int)) 6 29 166 G [.ref this] hp (pI Q) :=
  MH.of (by decide +kernel) (Nat.le_of_ble_eq_true rfl) rfl (fun p e s m below meth c ls X hin hW hl => hwb_X0_image X hE hW hl)
def w_X0_undo (G : GG) (hp : HP) (this : Nat) (Q : Int → HP → Prop) : Prop :=
  hR hp this 0 31 fun r1 => hIf (¬ r1 = none) (hR hp this 0 31 fun r2 => hIs hp this 0 (w_X0_becomes G hp this r2 (fun hp3 => hR hp3 this 0 8 fun r4 => hNn r4 fun b5 => hIs hp3 b5 20 (w_J22_clear G hp3 b5 (fun hp6 => hR hp6 this 0 2 fun r7 => hNn r7 fun b8 => hIs hp6 b8 12 (w_J3_size G hp6 b8 (fun v10 hp9 => Q v10 hp9))))))) (Q (-3) hp)
theorem hd_X0_undo : yX0_undo.cls = RX0 ∧ yX0_undo.cls ≠ "java/lang/invoke/MethodHandle" ∧ yX0_undo.cls ≠ "java/lang/invoke/VarHandle" ∧ (parseMethodDescriptor yX0_undo.desc).map (fun d => d.parameters.length) = some 0 := by decide +kernel
theorem hwb_X0_undo {p : Program} {l : Launch} {e : Env} {s : State} {m : MethodId} {args : Array Value} {below : List Frame} {meth : Method} {c : Code} {G : GG} (X : CX p s m args meth c cX0_undo 1 RX0 (some .int) G) {Q : Int → HP → Prop} {hp : HP} {this : Nat} (hE : w_X0_undo G hp this Q) {H : Heap} {locs : List Loc} {ls : Array Slot} (hW : WH G hp H locs) (hl : lv_has ls 1 [(0, .ref this)]) : W p l e (rmA 5 50 200) s m args below meth c H locs 0 0 (QH below G args s 50 200 (pI Q)) (F0 m 0 ls []) := by
  unfold w_X0_undo at hE
  refine e_aload_n X hl 0 rfl dX0_undo_0 rfl ?_
  refine h_getR X hW ck_X0 (k := 31) hE (by decide) q1256 (fun _ h => h) dX0_undo_1 (fun r1 hE => ?_)
  refine h_ifnonnull X (r := r1) hE dX0_undo_4 rfl (fun hE => ?_) (fun hE => ?_)
  · refine e_aload_n X hl 0 rfl dX0_undo_10 rfl ?_
    refine e_aload_n X hl 0 rfl dX0_undo_11 rfl ?_
    refine h_getR X hW ck_X0 (k := 31) hE (by decide) q1256 (fun _ h => h) dX0_undo_12 (fun r2 hE => ?_)
    obtain ⟨⟨fs, he⟩, hE⟩ := hE
    refine h_callVV (rest := []) (As := [va_rf r2]) X hW he ck_X0 (mh_X0_becomes l G hp this r2 _ hE) (cwV 1 X.ht (lw_V q1339 q1341 qs14 q127 q1342) rfl rfl rfl hd_X0_becomes (cxH (by decide) (by decide))) rfl hl.1 rfl (Nat.le_of_ble_eq_true rfl) dX0_undo_15 ⟨(Nat.le_of_ble_eq_true rfl), (Nat.le_of_ble_eq_true rfl)⟩ (50) (200) rfl rfl (fun hp3 hE H locs hW => ?_)
    refine e_aload_n X hl 0 rfl dX0_undo_18 rfl ?_
    refine h_getR X hW ck_X0 (k := 8) hE (by decide) q1233 (fun _ h => h) dX0_undo_19 (fun r4 hE => ?_)
    refine h_nn0 hE (fun b5 hE => ?_)
    obtain ⟨⟨fs, he⟩, hE⟩ := hE
    refine h_callVV (rest := []) (As := []) X hW he ck_J22 (mh_J22_clear l G hp3 b5 _ hE) (cwV 0 X.ht (lw_V q3021 q3022 q3023 q153 q3024) rfl rfl rfl hd_J22_clear (cxH (by decide) (by decide))) rfl hl.1 rfl (Nat.le_of_ble_eq_true rfl) dX0_undo_22 ⟨(Nat.le_of_ble_eq_true rfl), (Nat.le_of_ble_eq_true rfl)⟩ (50) (200) rfl rfl (fun hp6 hE H locs hW => ?_)
    refine e_aload_n X hl 0 rfl dX0_undo_25 rfl ?_
    refine h_getR X hW ck_X0 (k := 2) hE (by decide) q1226 (fun _ h => h) dX0_undo_26 (fun r7 hE => ?_)
    refine h_nn0 hE (fun b8 hE => ?_)
    obtain ⟨⟨fs, he⟩, hE⟩ := hE
    refine h_callVI (rest := []) (As := []) X hW he ck_J3 (mh_J3_size l G hp6 b8 _ hE) (cwV 0 X.ht (lw_V q785 q786 q787 q131 q788) rfl rfl rfl hd_J3_size (cxH (by decide) (by decide))) rfl hl.1 rfl (Nat.le_of_ble_eq_true rfl) dX0_undo_29 ⟨(Nat.le_of_ble_eq_true rfl), (Nat.le_of_ble_eq_true rfl)⟩ (50) (200) rfl rfl (fun v10 hp9 hE H locs hW => ?_)
    exact h_zret X hW hE rfl (Nat.le_of_ble_eq_true rfl) (Nat.le_of_ble_eq_true rfl) dX0_undo_32
  · refine e_bipush X dX0_undo_7 (by decide) ?_
    exact h_zret (x := (-3)) X hW hE rfl (Nat.le_of_ble_eq_true rfl) (Nat.le_of_ble_eq_true rfl) dX0_undo_9
theorem mh_X0_undo (l : Launch) (G : GG) (hp : HP) (this : Nat) (Q : Int → HP → Prop) (hE : w_X0_undo G hp this Q) : MH l yX0_undo (ws_ yX0_undo cX0_undo 1 (some .int)) 5 50 200 G [.ref this] hp (pI Q) :=
  MH.of (by decide +kernel) (Nat.le_of_ble_eq_true rfl) rfl (fun p e s m below meth c ls X hin hW hl => hwb_X0_undo X hE hW hl)
